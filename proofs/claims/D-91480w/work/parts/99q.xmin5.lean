set_option maxRecDepth 100000
theorem okRn_m {S : am_G} (hC : okC S) (h0 : okMn (mnS S) 0) (h : okRw S) : ∀ k : Nat, (k : Int) ≤ S 0 0 3 → ∀ S', mnR (mnS S) k S' → okRn S' (mnR0 S)
  | 0, _, S', e => by
    have e' : S' = mnS S := e
    rw [e']
    exact okRn_0 hC h
  | k + 1, hk, S', ⟨A, A1, a, h1, h2, h3⟩ => by
    obtain ⟨v1, v2, v3, v4, v5, v6, v7, v8⟩ := mnS_v (S := S) hC.2.2.2.2.2
    have e03 : mnS S 0 0 3 = S 0 0 3 := v4 3 (by decide) (by decide)
    have ih := mnR_ok h0 k (by rw [e03]; omega) A h1
    have i2 := okRn_m hC h0 h k (by omega) A h1
    have e3 : A 0 0 3 = S 0 0 3 := (ih.2 3 (by decide)).trans e03
    have c3 := hC.2.2.1
    have hk' : 0 ≤ (k : Int) ∧ (k : Int) < A 0 0 3 := by omega
    have q := okMn_s hk' ih.1 h2
    have u := un_tur ih.1.1 ih.1.2.1 hk' h2
    rw [h3]
    exact okRn_s (by omega) i2 q.2 u.2
theorem okR_m {S S' : am_G} (h : okMs S) (hr : okRw S) (hn : S 0 0 0 < 600) (m : mnR (mnS S) (S 0 0 3).toNat S') : okRw S' := by
  have c3 := h.1.1.2.2.1
  exact okRn_R (okRn_m h.1.1 (okMn_0 h.1 h.2.1 hn h.2.2) hr (S 0 0 3).toNat (by omega) S' m)
theorem unT_mn {S : am_G} (hC : okC S) : unT (mnS S) = unT S := by
  obtain ⟨v1, v2, v3, v4, v5, v6, v7, v8⟩ := mnS_v (S := S) hC.2.2.2.2.2
  have e : ∀ q, un (mnS S) q = un S q := fun q => by
    have e5 := v1 5 (by decide) (by decide)
    have e3 := v1 3 (by decide) (by decide)
    unfold un
    rw [e5]
    refine sg_ext _ _ (fun j j1 j2 => ?_)
    unfold usb
    simp only [e5, e3]
  unfold unT
  rw [e, e, e, e]
section
variable {K : am_K} {h : am_H}
theorem x_minute {L : am_Lb} {x P N : Nat} {S : am_G} {B : Int} {D : Nat} (hD : 91 ≤ D) (hB2 : B + 8 ≤ 1000000) (t : Nt h L x P N S B) (hx : am_ty h x = 1) {Rn : Nat} (hN : am_fr h 1 x = Rn) (hz : x ≤ am_sz h) (hl : L x = (x, 0, 0, 0)) (hB : B ≤ 1000000) (ok : okMs S) (okr : okRw S) (hn : S 0 0 0 < 600) (H : ∀ S' h' L', mnR (mnS S) (S 0 0 3).toNat S' → Nt h' L' x P N S' (B + 8) → Out h L x N h' L' (am_sz h' - am_sz h) (am_us h' - am_us h) → CO h h' N P S S' → K (.inl none) h') : am_ev am_prog D 221 [.inr (.inl N)] h K := by
  obtain ⟨x1, x2, x3, x4, x5, x6, x7, x8, x9, x10⟩ := t.2.2.2.1
  obtain ⟨r1, r2, r3, r4, r5⟩ := x10
  have hxN := t.2.2.2.2.1
  have hC := ok.1.1
  obtain ⟨v1, v2, v3, v4, v5, v6, v7, v8⟩ := mnS_v (S := S) hC.2.2.2.2.2
  have M0 := okMn_0 ok.1 ok.2.1 hn ok.2.2
  have R0 := okRn_0 hC okr
  have c0 := hC.1
  have c3 := hC.2.2.1
  have c7 := hC.2.2.2.2.2
  have g04 := ok.1.2.2.1
  have e03 : mnS S 0 0 3 = S 0 0 3 := v4 3 (by decide) (by decide)
  have e04 : mnS S 0 0 4 = S 0 0 4 := v4 4 (by decide) (by decide)
  obtain ⟨d, rfl⟩ : ∃ d, D = d + 13 := ⟨D - 13, by omega⟩
  refine am_en p_X3_minute rfl rfl ?_
  -- machines that are not
  have two : ∀ k, S 0 0 3 ≤ k → k ≤ 4 → ∀ Sk h' L' o2, mnR (mnS S) (S 0 0 3).toNat Sk → okRn Sk (mnR0 S) → Sk 0 0 3 = S 0 0 3 → Nt h' L' x P N (rs Sk (mnR0 S)) (B + 8) → Out h L x N h' L' (am_sz h' - am_sz h) (am_us h' - am_us h) → CO h h' N P S Sk → EN h' (am_fr h' 30 N) (am_fr h' 31 N) Sk (mnR0 S) k → am_W m_X3_minute (am_ev am_prog (d + 12)) K 34 [some (.inr (.inl (N))), some (.inl (k)), o2] [] h' := by
    refine lp_z ?_ ?_
    · intro k k1 k2 hL Sk h' L' o2 m okr' e3 t' ow co en
      have y1 := t'.2.2.2.1.1
      obtain ⟨w1, w2, w3, w4, w5⟩ := t'.2.2.2.1.2.2.2.2.2.2.2.2.2
      have f24 : am_fi h' 24 N = S 0 0 3 := y1.2.2.2.2.1.trans ((rs_j (by decide)).trans e3)
      have f32 : am_fi h' 32 N = (mnR0 S) := y1.2.2.2.2.2.1.trans u3_eq
      have e7 : rs Sk (mnR0 S) 0 0 7 = (mnR0 S) := u3_eq
      have ne := Nt_en (j := 4 * (mnR0 S) + k) (a := -1) t' (by rw [e7]; omega)
      have tw := nd_kne w1 w2 (by decide)
      refine v_X3_minute_34 ?_
      rw [f24, f32]
      exact ⟨fun z => absurd z (by omega), fun _ => ⟨y1.1.1, fun _ => ⟨⟨by omega, by omega, w1.1, by omega⟩, ⟨w2.1, by omega⟩, by omega, hL Sk _ L' _ m okr' e3 ne.1 (Out_mn ow ne.2) co (EN_e tw en)⟩, fun z => absurd z (by omega)⟩⟩
    · intro Sk h' L' o2 m okr' e3 t' ow co en
      have y1 := t'.2.2.2.1.1
      have f32 : am_fi h' 32 N = (mnR0 S) := y1.2.2.2.2.2.1.trans u3_eq
      have nf := Nt_fin t' okr' en
      refine v_X3_minute_34 ?_
      rw [f32]
      exact ⟨fun _ => ⟨⟨y1.1.1, by omega⟩, H Sk _ L' m nf.1 (Out_mn ow nf.2) co⟩, fun z => absurd z (by omega)⟩
  -- machines
  have one : ∀ k, 0 ≤ k → k ≤ S 0 0 3 → ∀ Sk h' L' o2, mnR (mnS S) k.toNat Sk → okMn Sk k → okRn Sk (mnR0 S) → Sk 0 0 3 = S 0 0 3 → Nt h' L' x P N (rs Sk (mnR0 S)) (B + 2 * k) → Out h L x N h' L' (am_sz h' - am_sz h) (am_us h' - am_us h) → CO h h' N P S Sk → EN h' (am_fr h' 30 N) (am_fr h' 31 N) Sk (mnR0 S) k → am_W m_X3_minute (am_ev am_prog (d + 12)) K 34 [some (.inr (.inl (N))), some (.inl (k)), o2] [] h' := by
    refine lp_z ?_ ?_
    · intro k k1 k2 hL Sk h' L' o2 m okm okr' e3 t' ow co en
      have y1 := t'.2.2.2.1.1
      obtain ⟨w1, w2, w3, w4, w5⟩ := t'.2.2.2.1.2.2.2.2.2.2.2.2.2
      have f24 : am_fi h' 24 N = S 0 0 3 := y1.2.2.2.2.1.trans ((rs_j (by decide)).trans e3)
      have tw := nd_kne w1 w2 (by decide)
      have hk : 0 ≤ k ∧ k < Sk 0 0 3 := by omega
      have rm := Out_rm ow hxN hx hN hz hl
      refine v_X3_minute_34 ?_
      rw [f24]
      refine ⟨fun z => absurd z (by omega), fun _ => ⟨y1.1.1, fun z => absurd z (by omega), fun _ => ?_⟩⟩
      refine x_turn1 (by omega) (by omega) t' rm.1 rm.2.1 rm.2.2.1 rm.2.2.2 (by omega) okm okr' hk (fun S1 a h2 L2 tr e10 t2 ow2 g2 co2 => am_av (v_X3_minute_44 ?_))
      have z1 := t2.2.2.2.1.1
      obtain ⟨u1, u2, u3', u4, u5⟩ := t2.2.2.2.1.2.2.2.2.2.2.2.2.2
      have f32 : am_fi h2 32 N = (mnR0 S) := z1.2.2.2.2.2.1.trans u3_eq
      have oks := okMn_s hk okm tr
      have okr2 := okRn_s (by omega) okr' oks.2 e10
      have e7 : rs (msF Sk k S1 a) (mnR0 S) 0 0 7 = (mnR0 S) := u3_eq
      have ne := Nt_en (j := 4 * (mnR0 S) + k) (a := a) t2 (by rw [e7]; omega)
      have eB : B + 2 * k + 2 = B + 2 * (k + 1) := by omega
      have en2 : EN (am_sai (am_sai h2 (am_fr h2 30 N) (4 * (mnR0 S) + k) a) (am_fr h2 31 N) (4 * (mnR0 S) + k) a) (am_fr h2 30 N) (am_fr h2 31 N) (msF Sk k S1 a) (mnR0 S) (k + 1) := by
        rw [g2.1 30, g2.1 31]
        exact EN_s (by omega) tw en okm.1.2.2.1.1.1 oks.2 okr'.2.2.2.1 e10 (g2.2 _ w1.2.1 (by rw [w1.2.2.2]) (by rw [w1.2.2.2])) (g2.2 _ w2.2.1 (by rw [w2.2.2.2]) (by rw [w2.2.2.2]))
      have e1 : (k + 1).toNat = k.toNat + 1 := by omega
      have e2 : ((k.toNat : Nat) : Int) = k := by omega
      rw [f32]
      refine ⟨⟨z1.1.1, by omega, by omega, u1.1, by omega⟩, ⟨u2.1, by omega⟩, by omega, hL (msF Sk k S1 a) _ L2 _ ?_ oks.1 okr2 ((oks.2.1 3 (by decide)).trans e3) ?_ (Out_mn (Out_mn ow ow2) ne.2) (CO_tr co co2) en2⟩
      · rw [e1]
        refine ⟨Sk, S1, a, m, ?_, ?_⟩
        · rw [e2]
          exact tr
        · rw [e2]
      · rw [← eB]
        exact ne.1
    · intro Sk h' L' o2 m okm okr' e3 t' ow co en
      exact two (S 0 0 3) (Int.le_refl _) (by omega) Sk h' L' o2 m okr' e3 (Nt_B (by omega) t') ow co en
  -- the begin
  have key : ∀ h1, fx (fun q => q = N ∨ q = am_fr h 30 N ∨ q = am_fr h 31 N) h h1 → (∀ f, am_fr h1 f N = am_fr h f N) → am_fi h1 18 N = S 0 0 0 + 1 → am_fi h1 32 N = (mnR0 S) → (∀ f, f ≠ 18 → f ≠ 32 → am_fi h1 f N = am_fi h f N) → (∀ j, 0 ≤ j → j < 4 * (mnR0 S) → am_ai h1 (am_fr h 30 N) j = am_ai h (am_fr h 30 N) (j + 4 * (if S 0 0 7 = 8 then 1 else 0 : Int)) ∧ am_ai h1 (am_fr h 31 N) j = am_ai h (am_fr h 31 N) (j + 4 * (if S 0 0 7 = 8 then 1 else 0 : Int))) → am_sz h1 = am_sz h → am_us h1 = am_us h → capG h1 N = capG h N → capB h1 P = capB h P → am_W m_X3_minute (am_ev am_prog (d + 12)) K 34 [some (.inr (.inl (N))), some (.inl (0)), none] [] h1 := fun h1 a hr f18 f32 fo tt sz us cg cb => by
    have tb := Nt_mb t hC a hr f18 f32 fo tt
    have hX : ∀ q, q ≤ am_sz h → (fun q => q = N ∨ q = am_fr h 30 N ∨ q = am_fr h 31 N) q → (L q).1 = N ∨ ((L q).1 = x ∧ (L q).2.1 = 1) := fun q hq z => by
      refine Or.inl ?_
      rcases z with z | z | z
      · rw [z, x1.1.2.2.2]
      · rw [z, r1.2.2.2]
      · rw [z, r2.2.2.2]
    refine one 0 (by omega) c3.1 (mnS S) h1 L none rfl M0 R0 e03 (Nt_B (by omega) tb) (Out_X t.1 a hX (by omega) (by omega)) ?_ ?_
    · unfold CO
      rw [cg, cb, sz, us, e04, unT_mn hC]
      omega
    · intro q q1 q2
      refine ⟨fun z => absurd z (by omega), fun _ => ⟨?_, ?_⟩⟩
      · have e : (1 + 5 * (mnR0 S) + q : Int) = 5 * (mnR0 S) + (q + 1) := by omega
        rw [e]
        exact v6 (q + 1) (by omega) (by omega)
      · rw [e04, lsG_c (v1 4 (by decide) (by decide)), v2]
        refine lsG_0 _ (fun j hj => ?_)
        have := okr.1 j (by omega) (by omega)
        omega
  have tw := nd_kne r1 r2 (by decide)
  refine v_X3_minute_0 ?_
  have f18 : am_fi h 18 N = S 0 0 0 := x1.2.2.1
  have f32 : am_fi h 32 N = S 0 0 7 := x1.2.2.2.2.2.1
  rw [f18, f32]
  refine ⟨⟨x1.1.1, by omega⟩, fun c => ?_, fun c => ⟨⟨Or.inl r1.1, r1.1, by omega⟩, ⟨Or.inl r2.1, r2.1, by omega⟩, by omega, ?_⟩⟩
  · have eR : (mnR0 S) = S 0 0 7 := if_neg c
    refine key _ (fx_sfi fx_refl (Or.inr (Or.inl rfl))) (fun _ => rfl) x_fie ?_ (fun f f1 f2 => x_fif f1) (fun j j1 j2 => ?_) rfl rfl rfl rfl
    · rw [x_fif (by decide), f32, eR]
    · rw [if_neg c]
      have e : (j + 4 * 0 : Int) = j := by omega
      rw [e]
      exact ⟨rfl, rfl⟩
  · have eR : (mnR0 S) = 7 := if_pos c
    refine key _ (fx_sfi (fx_wai (fx_wai (fx_sfi fx_refl (Or.inr (Or.inl rfl))) (Or.inr (Or.inr (Or.inl rfl)))) (Or.inr (Or.inr (Or.inr rfl)))) (Or.inr (Or.inl rfl))) (fun _ => rfl) ?_ ?_ (fun f f1 f2 => ?_) (fun j j1 j2 => ?_) rfl rfl rfl rfl
    · exact (x_fif (by decide)).trans (show am_fi (am_sfi h 18 N (S 0 0 0 + 1)) 18 N = S 0 0 0 + 1 from x_fie)
    · rw [x_fie, eR, c]
      decide
    · exact (x_fif f2).trans (show am_fi (am_sfi h 18 N (S 0 0 0 + 1)) f N = am_fi h f N from x_fif f1)
    · rw [if_pos c, x_ai_sfi (y := 0) (k := 0) (g := fun _ => 0) (g2 := fun _ => 0), x_air tw, x_aiwe, x_aiwe, x_air (Ne.symm tw), x_ai_sfi (y := 0) (k := 0) (g := fun _ => 0) (g2 := fun _ => 0)]
      have e : (4 + (j - 0) : Int) = j + 4 * 1 := by omega
      rw [← e]
      exact ⟨if_pos ⟨by omega, by omega⟩, if_pos ⟨by omega, by omega⟩⟩
/-- minutes go by -/
theorem X_minutes {L : am_Lb} {x P N : Nat} {S : am_G} {B : Int} {m : Int} {D : Nat} (hD : 90 ≤ D) (t : Nt h L x P N S B) (hx : am_ty h x = 1) (hN : am_fr h 1 x = N) (hC : okC S) (hz : x ≤ am_sz h) (hl : L x = (x, 0, 0, 0)) (hB : B ≤ 1000000) (hB2 : B + 960 ≤ 1000000) (ok : okMs S) (okr : okRw S) (H0 : ¬ (0 ≤ m ∧ m ≤ 120) → XT h L x P N S B K 35) (H1 : 0 ≤ m ∧ m ≤ 120 → ∀ S' h' L', mnsR S m.toNat S' → Nt h' L' x P N S' (B + 960) → Out h L x N h' L' (am_sz h' - am_sz h) (am_us h' - am_us h) → CO h h' N P S S' → K (.inl (some (.inl (S' 0 0 0)))) h') : am_ev am_prog (D + 2) 120 [.inr (.inl x), .inl m] h K := by
  have hxN := t.2.2.2.2.1
  obtain ⟨d, hd⟩ : ∃ d, D + 2 = d + 13 := ⟨D - 11, by omega⟩
  rw [hd]
  refine am_en p_X1_minutes rfl rfl ?_
  refine v_X1_minutes_0 ⟨fun c => ?_, fun c => XT_go t (H0 c)⟩
  have over : ∀ (n : Nat) (j : Nat) (S1 : am_G), mnsR S j S1 → 600 ≤ S1 0 0 0 → mnsR S (j + n) S1 := by
    intro n
    induction n with
    | zero => intro j S1 h1 _; exact h1
    | succ n ih => intro j S1 h1 h2; exact ⟨S1, ih j S1 h1 h2, Or.inr ⟨h2, rfl⟩⟩
  have main : ∀ j, 0 ≤ j → j ≤ m → ∀ Sj h' L', mnsR S j.toNat Sj → okMs Sj → okRw Sj → Nt h' L' x P N Sj (B + 8 * j) → Out h L x N h' L' (am_sz h' - am_sz h) (am_us h' - am_us h) → CO h h' N P S Sj → am_W m_X1_minutes (am_ev am_prog (d + 12)) K 7 [some (.inr (.inl (x))), some (.inl (m)), some (.inl (j))] [] h' := by
    refine lp_z ?_ ?_
    · intro j j1 j2 hL Sj h' L' hm hok hr t' ow co
      have e1 : (j + 1).toNat = j.toNat + 1 := by omega
      have y1 := t'.2.2.2.1.1
      have rm := Out_rm ow hxN hx hN hz hl
      refine v_X1_minutes_7 ?_
      rw [rm.2.1, y1.2.2.1]
      refine ⟨fun z => absurd z (by omega), fun _ => ⟨⟨rm.1, y1.1.1⟩, fun z => ?_, fun z => ?_⟩⟩
      · have q := over (m.toNat - j.toNat) j.toNat Sj hm z
        have e : j.toNat + (m.toNat - j.toNat) = m.toNat := by omega
        rw [e] at q
        exact H1 c Sj h' L' q (Nt_B (by omega) t') ow co
      · refine x_minute (by omega) (by omega) t' rm.1 rm.2.1 rm.2.2.1 rm.2.2.2 (by omega) hok hr z (fun S' h2 L2 mm t2 ow2 co2 => am_an (v_X1_minutes_18 ⟨by omega, hL S' h2 L2 ?_ (okMs_m hok z mm).1 (okR_m hok hr z mm) (Nt_B (by omega) t2) (Out_mn ow ow2) (CO_tr co co2)⟩))
        rw [e1]
        exact ⟨Sj, hm, Or.inl ⟨z, mm⟩⟩
    · intro Sj h' L' hm hok hr t' ow co
      have y1 := t'.2.2.2.1.1
      have rm := Out_rm ow hxN hx hN hz hl
      refine v_X1_minutes_7 ?_
      rw [rm.2.1, y1.2.2.1]
      exact ⟨fun _ => ⟨⟨rm.1, y1.1.1⟩, H1 c Sj h' L' hm (Nt_B (by omega) t') ow co⟩, fun z => absurd z (by omega)⟩
  refine main 0 (by omega) c.1 S h L rfl ok okr (Nt_B (by omega) t) (Out_fx0 t.1 fx_refl (by omega) (by omega)) ?_
  unfold CO
  omega
end
