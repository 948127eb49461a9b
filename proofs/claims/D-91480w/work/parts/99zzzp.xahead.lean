set_option maxRecDepth 100000
/-! the component looks ahead -/
theorem unT_0 {S : am_G} : 0 ≤ unT S := by
  have q : ∀ k, 0 ≤ un S k := fun k => (sg_bd (c := 1) (S 5 k 29).toNat 0 (fun j _ _ => usb_01)).1
  have a := q 0
  have b := q 1
  have c := q 2
  have e := q 3
  unfold unT
  omega
/-- what is left when the copy is dropped -/
theorem ah_end {h hb h' : am_H} {L Lb L' : am_Lb} {x P N Z : Nat} {S Sn : am_G} {B B' : Int} {dz du : Nat} (t : Nt h L x P N S B) (hZ : am_sz h < Z) (ow : ∀ q, (L q).1 ≤ am_sz h) (f0 : fx (fun _ => False) h hb) (le : leL h L Lb) (ln : ∀ q, am_sz h < q → (Lb q).1 = 0 ∨ (Lb q).1 = Z) (t' : Nt h' L' x P Z Sn B') (o : Out hb Lb x Z h' L' dz du) : Nt h' (unl L' Z) x P N S B ∧ Out h L x N h' (unl L' Z) (am_sz h' - am_sz h) (am_us h' - am_us h) := by
  obtain ⟨o1, o2, o3, o4⟩ := o
  have nz : ∀ q, (L q).1 ≠ Z := fun q e => by
    have := ow q
    omega
  have fA : fx (fun q => (L q).1 = x ∧ (L q).2.1 = 1) h h' := fx_trans2 (fx_sub f0 (fun _ _ z => z.elim)) o1 (fun q hq e => by
    have e' : (Lb q).1 = Z ∨ ((Lb q).1 = x ∧ (Lb q).2.1 = 1) := e
    rw [le q hq] at e'
    rcases e' with e' | e'
    · exact absurd e' (nz q)
    · exact e')
  have le' : leL h L L' := fun q hq => (o2 q (Nat.le_trans hq f0.1)).trans (le q hq)
  have leU : leL h L (unl L' Z) := fun q hq => (unl_ne (by rw [le' q hq]; exact nz q)).trans (le' q hq)
  have okU := okLb_un (Z := Z) t'.1
  have pU := rPap_un t'.2.2.1 t'.2.2.2.2.1
  have zz := fA.1
  have uu := fA.2.1
  refine ⟨Nt_pp t fA leU okU (fun q _ e => e) pU, fx_sub fA (fun q _ e => Or.inr e), leU, ⟨by omega, by omega⟩, fun q hq => ?_⟩
  rcases unl_o (L := L') (Z := Z) (q := q) with e | e
  · exact Or.inl e
  · rw [e.1]
    by_cases c : q ≤ am_sz hb
    · rw [o2 q c] at e ⊢
      rcases ln q hq with y | y
      · exact Or.inl y
      · exact absurd y e.2
    · rcases o4 q (by omega) with y | y | y
      · exact Or.inl y
      · exact absurd y e.2
      · exact Or.inr (Or.inr y)
section
variable {K : am_K} {h : am_H}
/-- the loop -/
theorem x_ahl {L : am_Lb} {x P N : Nat} {Lb : am_Lb} {hb : am_H} {Z d : Nat} {S0 : am_G} {k : Int} (hd : 94 ≤ d + 12) (hx : am_ty hb x = 1) (hz : x ≤ am_sz hb) (hl : Lb x = (x, 0, 0, 0)) (H : ∀ n Sn, mnX S0 n Sn → (idl Sn ∨ 600 ≤ Sn 0 0 0 ∨ stk Sn) → okMs Sn → ∀ a, (idl Sn → a = Sn 0 0 0) → (¬ idl Sn → a = -1) → ∀ h' L', Nt h' L' x P Z Sn 5300 → Out hb Lb x Z h' L' (am_sz h' - am_sz hb) (am_us h' - am_us hb) → CO hb h' Z P S0 Sn → K (.inl (some (.inl (a)))) h') : ∀ (f n : Nat) (Sn : am_G) (h' : am_H) (L' : am_Lb), (600 - Sn 0 0 0).toNat ≤ f → mnX S0 n Sn → (n : Int) ≤ Sn 0 0 0 → okMs Sn → okRw Sn → Nt h' L' x P Z Sn (400 + 8 * n) → Out hb Lb x Z h' L' (am_sz h' - am_sz hb) (am_us h' - am_us hb) → CO hb h' Z P S0 Sn → am_W m_X1_ahead (am_ev am_prog (d + 12)) K 21 [some (.inr (.inl (x))), some (.inl (k)), some (.inr (.inl (Z)))] [] h' := by
  intro f
  have fin : ∀ (n : Nat) (Sn : am_G) (h' : am_H) (L' : am_Lb), mnX S0 n Sn → (n : Int) ≤ Sn 0 0 0 → okMs Sn → (idl Sn ∨ 600 ≤ Sn 0 0 0 ∨ stk Sn) → Nt h' L' x P Z Sn (400 + 8 * n) → Out hb Lb x Z h' L' (am_sz h' - am_sz hb) (am_us h' - am_us hb) → CO hb h' Z P S0 Sn → am_ev am_prog (d + 12) 228 [.inr (.inl Z)] h' (am_aft (am_hand m_X1_ahead K (am_W m_X1_ahead (am_ev am_prog (d + 12)) K) 35) (am_W m_X1_ahead (am_ev am_prog (d + 12)) K) 35 [some (.inr (.inl (x))), some (.inl (k)), some (.inr (.inl (Z)))] []) := by
    intro n Sn h' L' hm hn ok he t' o co
    have c0 := ok.1.1.1
    have y1 := t'.2.2.2.1.1
    have HH := H n Sn hm he ok
    refine x_idle (by omega) t'.2.2.2.1 ok.1.1.2.2.1 (fun v hv => am_av (v_X1_ahead_36 ?_))
    rw [y1.2.2.1]
    exact ⟨fun e => HH (-1) (fun z => absurd e (hv.2 z)) (fun _ => rfl) h' L' (Nt_B (by omega) t') o co, fun e => ⟨y1.1.1, HH _ (fun _ => rfl) (fun z => absurd (hv.1 e) z) h' L' (Nt_B (by omega) t') o co⟩⟩
  induction f with
  | zero =>
    intro n Sn h' L' hf hm hn ok okr t' o co
    have c0 := ok.1.1.1
    have y1 := t'.2.2.2.1.1
    have en : 600 ≤ Sn 0 0 0 := by omega
    refine v_X1_ahead_21 ⟨y1.1.1, x_idle (by omega) t'.2.2.2.1 ok.1.1.2.2.1 (fun v hv => am_av (v_X1_ahead_23 ?_))⟩
    rw [y1.2.2.1]
    exact ⟨fun e => ⟨y1.1.1, fin n Sn h' L' hm hn ok (Or.inl (hv.1 e)) t' o co⟩, fun e => ⟨y1.1.1, fun z => fin n Sn h' L' hm hn ok (Or.inr (Or.inl z)) t' o co, fun z => absurd z (by omega)⟩⟩
  | succ f ih =>
    intro n Sn h' L' hf hm hn ok okr t' o co
    have c0 := ok.1.1.1
    have y1 := t'.2.2.2.1.1
    refine v_X1_ahead_21 ⟨y1.1.1, x_idle (by omega) t'.2.2.2.1 ok.1.1.2.2.1 (fun v hv => am_av (v_X1_ahead_23 ?_))⟩
    rw [y1.2.2.1]
    refine ⟨fun e => ⟨y1.1.1, fin n Sn h' L' hm hn ok (Or.inl (hv.1 e)) t' o co⟩, fun e => ⟨y1.1.1, fun z => fin n Sn h' L' hm hn ok (Or.inr (Or.inl z)) t' o co, fun z => ?_⟩⟩
    refine x_stuck (by omega) t'.2.2.2.1 ok.1.1.2.2.1 (fun v2 hv2 => am_av (v_X1_ahead_30 ⟨fun e2 => ⟨y1.1.1, fin n Sn h' L' hm hn ok (Or.inr (Or.inr (hv2.1 e2))) t' o co⟩, fun e2 => ⟨y1.1.1, ?_⟩⟩))
    have rm := Out_rm o t'.2.2.2.2.1 hx rfl hz hl
    refine x_minute (by omega) (by omega) t' rm.1 rm.2.1 rm.2.2.1 rm.2.2.2 (by omega) ok okr z (fun S' h2 L2 mm t2 ow2 co2 => am_an (v_X1_ahead_33 ?_))
    have nw := mnR_now ok z mm
    exact ih (n + 1) S' h2 L2 (by omega) ⟨Sn, hm, ⟨z, fun y => absurd e (hv.2 y), fun y => absurd e2 (hv2.2 y)⟩, mm⟩ (by omega) (okMs_m ok z mm).1 (okR_m ok okr z mm) (Nt_B (by omega) t2) (Out_mn o ow2) (CO_tr co co2)
theorem X_ahead {L : am_Lb} {x P N : Nat} {S : am_G} {B : Int} {k : Int} {D : Nat} (hD : 95 ≤ D) (t : Nt h L x P N S B) (hx : am_ty h x = 1) (hN : am_fr h 1 x = N) (hz : x ≤ am_sz h) (hl : L x = (x, 0, 0, 0)) (ow : ∀ q, (L q).1 ≤ am_sz h) (ok : okMs S) (okr : okRw S) (H0 : ¬ (k = -1 ∨ (0 ≤ k ∧ k < S 0 0 3)) → XT h L x P N S B K 33) (H1 : (k = -1 ∨ (0 ≤ k ∧ k < S 0 0 3)) → ∀ n Sn, mnX (ah0 S k) n Sn → (idl Sn ∨ 600 ≤ Sn 0 0 0 ∨ stk Sn) → okMs Sn → ∀ a, (idl Sn → a = Sn 0 0 0) → (¬ idl Sn → a = -1) → ∀ h' L', Nt h' L' x P N S B → Out h L x N h' L' (am_sz h' - am_sz h) (am_us h' - am_us h) → (am_sz h' : Int) + capB h P ≤ am_sz h + 1900 + 100 * unT (ah0 S k) + capB h' P → (am_us h' : Int) + 2 * capB h P ≤ am_us h + 17300 + 1100 * unT (ah0 S k) + 2 * capB h' P → K (.inl (some (.inl (a)))) h') : am_ev am_prog D 123 [.inr (.inl x), .inl k] h K := by
  have xN := t.2.2.2.2
  have x1 := t.2.2.2.1.1
  have o0 := ok.1
  have c3 := o0.1.2.2.1
  have c0 := o0.1.1
  have Pz := t.2.2.1.1.2.1
  have Bz := t.2.2.1.2.2.2.2.1.2.1
  have Az := t.2.2.1.2.2.2.2.2.1.2.1
  obtain ⟨d, rfl⟩ : ∃ d, D = d + 13 := ⟨D - 13, by omega⟩
  refine am_en p_X1_ahead rfl rfl ?_
  refine v_X1_ahead_0 ?_
  rw [hN, x1.2.2.2.2.1]
  refine ⟨⟨hx, x1.1.1, by omega⟩, fun c => ?_, fun c => XT_go t (H0 (fun z => c (by omega)))⟩
  have ak : (k = -1 ∨ (0 ≤ k ∧ k < S 0 0 3)) := by omega
  have HH := H1 ak
  refine x_copy (by omega) t.1 t.2.1 t.2.2.2.1 ow o0.1 o0.2.1 o0.2.2.2.1 o0.2.2.1 ok.2.1.1 o0.2.2.2.2.1.1 (fun h1 L1 f1 le1 ok1 r1 ln1 z1 u1 => am_av (v_X1_ahead_12 ?_))
  have Zz := r1.1.1.2.1
  have lZ := r1.1.1.2.2.2
  have t1 := Nt_fxL f1 le1 ok1 t
  have tZ : Nt h1 L1 x P (am_sz h + 1) S 400 := ⟨ok1, t1.2.1, t1.2.2.1, r1, by omega, xN.2.1, by omega⟩
  have kx := f1.2.2.2 x hz
  have lx1 : L1 x = (x, 0, 0, 0) := (le1 x hz).trans hl
  have kP := (f1.2.2.2 P Pz).2.2 (fun z => z)
  have kB := (f1.2.2.2 _ Bz).2.2 (fun z => z)
  have kA := f1.2.2.2 _ Az
  have eB : capB h1 P = capB h P := by
    unfold capB
    rw [kP.2.1 15, kB.2.1 185]
    exact kA.2.1
  -- from any heap that is told by the night to look ahead on
  have go : ∀ hb, fx (fun _ => False) h hb → am_sz hb = am_sz h1 → am_us hb = am_us h1 → capB hb P = capB h P → capG hb (am_sz h + 1) = capG h1 (am_sz h + 1) → Nt hb L1 x P (am_sz h + 1) (ah0 S k) 400 → okMs (ah0 S k) → okRw (ah0 S k) → (ah0 S k) 0 = S 0 → am_W m_X1_ahead (am_ev am_prog (d + 12)) K 21 [some (.inr (.inl (x))), some (.inl (k)), some (.inr (.inl (am_sz h + 1)))] [] hb := by
    intro hb fb zb ub cb gb tb okb okrb e0
    have kxb := fb.2.2.2 x hz
    refine x_ahl (L := L) (N := N) (Lb := L1) (S0 := ah0 S k) (by omega) (kxb.1.trans hx) (Nat.le_trans hz fb.1) lx1 (fun n Sn hm he oks a a1 a2 h' L' t' o co => ?_) _ 0 (ah0 S k) hb L1 (Nat.le_refl _) rfl (by rw [e0]; exact c0.1) okb okrb (Nt_B (by omega) tb) (Out_fx0 tb.1 fx_refl (by omega) (by omega)) ?_
    · obtain ⟨q1, q2⟩ := ah_end t (by omega) ow fb le1 ln1 t' o
      have g' := capG_b t'.2.2.2.1
      have gs := oks.1.2.2.1.1
      have u0 := unT_0 (S := Sn)
      obtain ⟨w1, w2, w3⟩ := co
      have e04 : (ah0 S k) 0 0 4 = S 0 0 4 := by rw [e0]
      refine HH n Sn hm he oks a a1 a2 h' (unl L' (am_sz h + 1)) q1 q2 ?_ ?_
      · omega
      · omega
    · unfold CO
      omega
  by_cases ck : k = -1
  · have e0 : ah0 S k = S := if_pos ck
    refine ⟨fun _ => go h1 f1 rfl rfl eB rfl (by rw [e0]; exact tZ) (by rw [e0]; exact ok) (by rw [e0]; exact okr) (by rw [e0]), fun z => absurd z (by omega)⟩
  · have kb : 0 ≤ k ∧ k < S 0 0 3 := ak.resolve_left ck
    have e0 : ah0 S k = u3 S 5 k 28 1 := if_neg ck
    have s5 := r1.2.2.2.2.1
    have mk := s5.2.2 k kb.1 kb.2
    have tb := Rep_28 (v := 1) tZ kb
    have r0 : u3 S 5 k 28 1 0 = S 0 := u3_r (by decide)
    refine ⟨fun z => absurd z (by omega), fun _ => ⟨⟨r1.1.1.1, s5.1.1, by rw [s5.2.1]; omega, mk.1.1⟩, ?_⟩⟩
    refine go _ (fx_sfi f1 (Or.inl ?_)) rfl rfl eB rfl (by rw [e0]; exact tb) (by rw [e0]; exact ok_28 (Or.inr rfl) ok) ?_ (by rw [e0]; exact r0)
    · have lm := mk.1.2.2.2
      have nq : ¬ am_ar h1 (am_fr h1 23 (am_sz h + 1)) k ≤ am_sz h := fun hq => by
        have e := le1 _ hq
        rw [lm] at e
        have := ow (am_ar h1 (am_fr h1 23 (am_sz h + 1)) k)
        rw [← e] at this
        exact absurd this (by show ¬ am_sz h + 1 ≤ am_sz h; omega)
      omega
    · rw [e0]
      have r4 : u3 S 5 k 28 1 4 = S 4 := u3_r (by decide)
      have r10 : u3 S 5 k 28 1 10 = S 10 := u3_r (by decide)
      unfold okRw
      rw [r0, r4, r10]
      exact okr
end
