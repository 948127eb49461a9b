set_option maxRecDepth 100000
/-! the model: its row is kept and taken back as a whole -/
theorem cpy_k {f g : Int → Int} {k : Int} (h : 0 ≤ k ∧ k < 337220) : am_cpy f g 0 0 337220 k = f k := by
  unfold am_cpy
  rw [if_pos (by omega)]
  congr 1
  omega
theorem cpy_ms {S S' : am_G} {v : Int → Int} (e : ∀ k, 0 ≤ k → k < 337220 → v k = ms S k) : am_cpy v (ms S') 0 0 337220 = ms S := by
  funext k
  by_cases c : 0 ≤ k ∧ k < 337220
  · rw [cpy_k c]
    exact e k c.1 c.2
  · unfold am_cpy
    rw [if_neg (by omega)]
    unfold ms
    rw [if_neg c, if_neg c]
/-- one machine is broken or not: nothing else is -/
theorem ok_28 {S : am_G} {k v : Int} (hv : v = 0 ∨ v = 1) (h : okMs S) : okMs (u3 S 5 k 28 v) := by
  obtain ⟨⟨a1, a2, a3, a4, a5, a6, a7, a8, a9, a10⟩, ⟨b1, b2, b3⟩, s⟩ := h
  have e : ∀ c, c ≠ 5 → u3 S 5 k 28 v c = S c := fun c hc => u3_r hc
  have e0 := e 0 (by decide)
  have e1 := e 1 (by decide)
  have e2 := e 2 (by decide)
  have e3 := e 3 (by decide)
  have e4 := e 4 (by decide)
  have e6 := e 6 (by decide)
  have e5 : ∀ q j, j ≠ 28 → u3 S 5 k 28 v 5 q j = S 5 q j := fun q j hj => u3_no hj
  have e28 : ∀ q, u3 S 5 k 28 v 5 q 28 = S 5 q 28 ∨ u3 S 5 k 28 v 5 q 28 = v := fun q => by
    by_cases c : q = k
    · right
      rw [c, u3_eq]
    · left
      exact u3_np c
  have eP : ∀ p, isP (u3 S 5 k 28 v) p ↔ isP S p := fun p => by
    unfold isP
    rw [e0, e2]
  refine ⟨⟨?_, ?_, ?_, ?_, ?_, ?_, ?_, ?_, ?_, ?_⟩, ⟨?_, ?_, ?_⟩, ?_⟩
  · unfold okC
    rw [e0]
    exact a1
  · unfold okF
    rw [e0, e2]
    exact a2
  · unfold okG
    rw [e0, e4]
    exact a3
  · intro p ip
    have q := a4 p ((eP p).1 ip)
    unfold okL at q ⊢
    rw [e3, e0]
    exact q
  · unfold okY
    rw [e0, e6]
    exact a5
  · unfold okY1
    rw [e0, e6]
    exact a6
  · unfold okWs
    rw [e1]
    exact a7
  · intro s
    rw [e0, e3, e4]
    intro s1 s2
    have q := a8 s s1 s2
    exact ⟨(eP _).2 q.1, q.2.1, q.2.2.1, q.2.2.2.1, q.2.2.2.2.1, fun c => ⟨(eP _).2 (q.2.2.2.2.2 c).1, (q.2.2.2.2.2 c).2⟩⟩
  · unfold ok0
    rw [e4]
    exact a9
  · intro p ip
    rw [e3, e4]
    exact a10 p ((eP p).1 ip)
  · intro q q1 q2
    obtain ⟨m1, m2, m3, m4, m5, m6, m7, m8⟩ := b1 q q1 q2
    rw [e5 q 27 (by decide), e5 q 29 (by decide), e5 q 30 (by decide), e5 q 31 (by decide), e5 q 32 (by decide)]
    refine ⟨fun c c1 c2 => by rw [e5 q c (by omega)]; exact m1 c c1 c2, m2, ?_, m4, m5, m6, m7, fun i i1 i2 => ?_⟩
    · rcases e28 q with z | z
      · rw [z]
        exact m3
      · rw [z]
        exact hv
    · rw [e5 q _ (by omega), e5 q _ (by omega), e5 q _ (by omega), e5 q _ (by omega), e5 q _ (by omega)]
      exact ⟨(eP _).2 (m8 i i1 i2).1, (m8 i i1 i2).2⟩
  · refine ⟨fun q i => ?_, fun q i q' i' => ?_⟩
    · rw [e0, e5 q 29 (by decide)]
      intro q1 q2 i1 i2
      rw [e3, e5 q _ (by omega), e5 q _ (by omega), e5 q _ (by omega), e5 q _ (by omega)]
      exact b2.1 q i q1 q2 i1 i2
    · rw [e0, e5 q 29 (by decide), e5 q' 29 (by decide)]
      intro q1 q2 i1 i2 q1' q2' i1' i2'
      rw [e5 q _ (by omega), e5 q _ (by omega), e5 q' _ (by omega), e5 q' _ (by omega)]
      exact b2.2 q i q' i' q1 q2 i1 i2 q1' q2' i1' i2'
  · intro q i
    rw [e0, e5 q 29 (by decide)]
    intro q1 q2 i1 i2
    rw [e3, e5 q _ (by omega)]
    exact b3 q i q1 q2 i1 i2
  · intro q q1 q2
    have z := s q q1 q2
    unfold sm3 at z ⊢
    rw [e0, e5 q 30 (by decide), e5 q 31 (by decide), e5 q 32 (by decide)]
    exact z
/-- minutes as long as there are jobs -/
def mnC (S : am_G) : Nat → am_G → Prop
  | 0, S' => S' = S
  | n + 1, S' => ∃ S1, mnC S n S1 ∧ (S1 0 0 0 < 600 ∧ 0 < jbs S1) ∧ mnR (mnS S1) (S1 0 0 3).toNat S'
/-- the night that is looked ahead on -/
def ah0 (S : am_G) (k : Int) : am_G := if k = -1 then S else u3 S 5 k 28 1
theorem mnR_now {S S' : am_G} (h : okMs S) (hn : S 0 0 0 < 600) (m : mnR (mnS S) (S 0 0 3).toNat S') : S' 0 0 0 = S 0 0 0 + 1 := by
  obtain ⟨h0, h5, hs⟩ := h
  have c3 := h0.1.2.2.1
  obtain ⟨v1, v2, v3, v4, v5, v6, v7, v8⟩ := mnS_v (S := S) h0.1.2.2.2.2.2
  have e03 : mnS S 0 0 3 = S 0 0 3 := v4 3 (by decide) (by decide)
  have q := mnR_ok (okMn_0 h0 h5 hn hs) (S 0 0 3).toNat (by rw [e03]; omega) S' m
  exact (q.2 0 (by decide)).trans v2
section
variable {K : am_K} {b : am_H} {r : Nat} {S : am_G} {V : Nat → Int → Int} {W : Nat → Int}
theorem M_image {D : Nat} (hD : 90 ≤ D) (H : ∀ V' W', V' 2 = am_cpy (ms S) (V 2) 0 0 337220 → fa [2] V V' → fa [38, 42] W W' → W' 42 = 1 → W' 38 = 0 → K (.inl none) (mo b r (ms S) V' W')) : am_ev am_prog D 10 [.inr (.inl r)] (mo b r (ms S) V W) K := by
  obtain ⟨d, rfl⟩ : ∃ d, D = d + 4 := ⟨D - 4, by omega⟩
  refine am_en p_X5_image rfl rfl ?_
  refine r_X5_image_0 ⟨mo_ty, ?_⟩
  rw [mo_si]
  refine r_X5_image_3 ?_
  rw [mo_f39, mo_f40, mo_t1, mo_t2, mo_n1, mo_n2, mo_a1, mo_a2, mo_w2]
  refine ⟨mo_ty, mo_ty, Or.inl rfl, rfl, by omega, r_X5_image_11 ⟨mo_ty, Or.inr rfl, ?_⟩⟩
  rw [mo_si]
  exact r_X5_image_14 (H _ _ am_up_eq (fa_up fa_refl rfl) (fa_up (fa_up fa_refl rfl) rfl) am_up_eq ((am_up_ne (by decide)).trans am_up_eq))
theorem M_back {SI : am_G} {D : Nat} (hD : 90 ≤ D) (h42 : W 42 = 0 ∨ W 42 = 1) (hI : W 42 = 1 → ∀ k, 0 ≤ k → k < 337220 → V 2 k = ms SI k) (H0 : W 42 = 0 → MR b r K S V W 0 (0)) (H1 : W 42 = 1 → MR b r K SI V W 0 (1)) : am_ev am_prog D 11 [.inr (.inl r)] (mo b r (ms S) V W) K := by
  obtain ⟨d, rfl⟩ : ∃ d, D = d + 4 := ⟨D - 4, by omega⟩
  refine am_en p_X5_back rfl rfl ?_
  refine r_X5_back_0 ⟨mo_ty, ?_⟩
  rw [mo_si]
  have e42 : am_up W 38 0 42 = W 42 := am_up_ne (by decide)
  refine r_X5_back_3 ?_
  rw [mo_i, e42]
  refine ⟨mo_ty, fun c => r_X5_back_14 ?_, fun c => r_X5_back_6 ?_⟩
  · rw [mo_i, e42, c]
    exact ⟨mo_ty, Or.inl rfl, MR_up (H0 c)⟩
  · have c1 : W 42 = 1 := h42.resolve_left c
    rw [mo_f39, mo_f40, mo_t1, mo_t2, mo_n1, mo_n2, mo_a1, mo_a2, mo_w1, cpy_ms (hI c1)]
    refine ⟨mo_ty, mo_ty, Or.inl rfl, rfl, by omega, r_X5_back_14 ?_⟩
    rw [mo_i, e42, c1]
    exact ⟨mo_ty, Or.inr rfl, MR_up (H1 c1)⟩
theorem M_ahead {k : Int} {D : Nat} (hD : 90 ≤ D) (h : okMs S) (H0 : ¬ (k = -1 ∨ (0 ≤ k ∧ k < S 0 0 3)) → MR b r K S V W 1 (0)) (H1 : (k = -1 ∨ (0 ≤ k ∧ k < S 0 0 3)) → ∀ n Sn, mnC (ah0 S k) n Sn → (600 ≤ Sn 0 0 0 ∨ jbs Sn ≤ 0) → MR b r K S V W 0 (if 0 < jbs Sn then -1 else Sn 0 0 0)) : am_ev am_prog D 48 [.inr (.inl r), .inl k] (mo b r (ms S) V W) K := by
  have c3 := h.1.1.2.2.1
  obtain ⟨d, rfl⟩ : ∃ d, D = d + 4 := ⟨D - 4, by omega⟩
  refine am_en p_X5_ahead rfl rfl ?_
  -- the end of it: the row is taken back
  have fin : ∀ a Sx V' W', K (.inl (some (.inl (a)))) (mo b r (ms S) V' W') → (∀ j, 0 ≤ j → j < 337220 → V' 3 j = ms S j) → ∀ o2, am_W m_X5_ahead (am_ev am_prog (d + 3)) K 57 [some (.inr (.inl r)), some (.inl (k)), o2] [.inl a] (mo b r (ms Sx) V' W') := by
    intro a Sx V' W' HK e3 o2
    refine r_X5_ahead_57 ?_
    rw [mo_f39, mo_f41, mo_t1, mo_t3, mo_n1, mo_n3, mo_a1, mo_a3, mo_w1, cpy_ms e3]
    exact ⟨mo_ty, mo_ty, Or.inl rfl, rfl, by omega, r_X5_ahead_66 HK⟩
  have now : ∀ Sx : am_G, ms Sx 0 = Sx 0 0 0 := fun Sx => ms_g (rc_0 (k := 0) (p := 0) (i := 0) rfl rfl (by decide)).1 (rc_0 (k := 0) (p := 0) (i := 0) rfl rfl (by decide)).2
  have ends : (k = -1 ∨ (0 ≤ k ∧ k < S 0 0 3)) → ∀ (n : Nat) (Sn : am_G) V' W', mnC (ah0 S k) n Sn → okMs Sn → (600 ≤ Sn 0 0 0 ∨ jbs Sn ≤ 0) → fa [3, 11, 12, 13, 14, 15, 16, 17, 18] V V' → fa [38, 62, 63, 64, 65, 66, 67, 68, 73] (am_up W 38 0) W' → W' 38 = 0 → (∀ j, 0 ≤ j → j < 337220 → V' 3 j = ms S j) → ∀ o2, am_W m_X5_ahead (am_ev am_prog (d + 3)) K 48 [some (.inr (.inl r)), some (.inl (k)), o2] [] (mo b r (ms Sn) V' W') := by
    intro ak n Sn V' W' hc ok he fV fW w38 e3 o2
    have HM := H1 ak n Sn hc he
    have go : ∀ a, a = (if 0 < jbs Sn then -1 else Sn 0 0 0) → K (.inl (some (.inl (a)))) (mo b r (ms S) V' W') := fun a e => by
      rw [e]
      exact HM V' W' ⟨fV 2 rfl, fV 4 rfl, ⟨fV 5 rfl, fV 6 rfl, fV 7 rfl⟩, (fW 42 rfl).trans (am_up_ne (by decide)), (fW 44 rfl).trans (am_up_ne (by decide)), (fW 47 rfl).trans (am_up_ne (by decide))⟩ w38
    refine r_X5_ahead_48 ⟨mo_ty, c_jobs (by omega) ok.1.1.2.2.1 (fun q q1 q2 => (ok.2.1.1 q q1 q2).2.2.2.1) (am_av (r_X5_ahead_50 ⟨fun z => r_X5_ahead_53 ?_, fun z => r_X5_ahead_51 (fin _ _ _ _ (go _ (if_pos z).symm) e3 _)⟩))⟩
    rw [mo_f39, mo_t1, mo_n1, mo_a1, now]
    exact ⟨mo_ty, Or.inl rfl, by omega, fin _ _ _ _ (go _ (if_neg (by omega)).symm) e3 _⟩
  have main : (k = -1 ∨ (0 ≤ k ∧ k < S 0 0 3)) → ∀ (f : Nat) (n : Nat) (Sn : am_G) V' W', (600 - Sn 0 0 0).toNat ≤ f → mnC (ah0 S k) n Sn → okMs Sn → fa [3, 11, 12, 13, 14, 15, 16, 17, 18] V V' → fa [38, 62, 63, 64, 65, 66, 67, 68, 73] (am_up W 38 0) W' → W' 38 = 0 → (∀ j, 0 ≤ j → j < 337220 → V' 3 j = ms S j) → ∀ o2, am_W m_X5_ahead (am_ev am_prog (d + 3)) K 36 [some (.inr (.inl r)), some (.inl (k)), o2] [] (mo b r (ms Sn) V' W') := by
    intro ak f
    induction f with
    | zero =>
      intro n Sn V' W' hf hc ok fV fW w38 e3 o2
      refine r_X5_ahead_36 ?_
      rw [mo_f39, mo_t1, mo_n1, mo_a1, now]
      exact ⟨mo_ty, Or.inl rfl, by omega, fun z => ends ak n Sn V' W' hc ok (Or.inl z) fV fW w38 e3 _, fun z => absurd z (by omega)⟩
    | succ f ih =>
      intro n Sn V' W' hf hc ok fV fW w38 e3 o2
      refine r_X5_ahead_36 ?_
      rw [mo_f39, mo_t1, mo_n1, mo_a1, now]
      refine ⟨mo_ty, Or.inl rfl, by omega, fun z => ends ak n Sn V' W' hc ok (Or.inl z) fV fW w38 e3 _, fun z => r_X5_ahead_42 ⟨mo_ty, ?_⟩⟩
      refine c_jobs (by omega) ok.1.1.2.2.1 (fun q q1 q2 => (ok.2.1.1 q q1 q2).2.2.2.1) (am_av (r_X5_ahead_44 ⟨fun y => ends ak n Sn V' W' hc ok (Or.inr y) fV fW w38 e3 _, fun y => r_X5_ahead_45 ⟨mo_ty, ?_⟩⟩))
      refine c_minute (by omega) ok.1 ok.2.1 z ok.2.2 (fun S' V2 W2 mm hV2 hW2 => am_an (r_X5_ahead_47 ?_))
      have nw := mnR_now ok z mm
      refine ih (n + 1) S' V2 W2 (by omega) ⟨Sn, hc, ⟨z, y⟩, mm⟩ (okMs_m ok z mm).1 (fa_trans fV (fa_sub hV2 rfl)) (fa_trans fW (fa_sub hW2 rfl)) ((hW2 38 rfl).trans w38) (fun j j1 j2 => ?_) _
      rw [hV2 3 rfl]
      exact e3 j j1 j2
  -- the row is kept
  have keep : (k = -1 ∨ (0 ≤ k ∧ k < S 0 0 3)) → ∀ o2, am_W m_X5_ahead (am_ev am_prog (d + 3)) K 17 [some (.inr (.inl r)), some (.inl (k)), o2] [] (mo b r (ms S) V (am_up W 38 0)) := by
    intro ak o2
    refine r_X5_ahead_17 ?_
    rw [mo_f39, mo_f41, mo_t1, mo_t3, mo_n1, mo_n3, mo_a1, mo_a3, mo_w3]
    refine ⟨mo_ty, mo_ty, Or.inl rfl, rfl, by omega, r_X5_ahead_25 ⟨fun z => ?_, fun z => r_X5_ahead_28 ⟨mo_ty, ?_⟩⟩⟩
    · have e0 : ah0 S k = S := if_pos z
      exact main ak _ 0 S _ _ (Nat.le_refl _) e0.symm h (fa_up fa_refl rfl) fa_refl am_up_eq (fun j j1 j2 => by rw [am_up_eq]; exact cpy_k ⟨j1, j2⟩) _
    · have kb : 0 ≤ k ∧ k < S 0 0 3 := ak.resolve_left z
      have e0 : ah0 S k = u3 S 5 k 28 1 := if_neg z
      refine c_machine0 (by omega) (am_av (r_X5_ahead_32 ?_))
      have r5 := rc_5 (k := 320230 + 183 * k + 28) (p := k) (i := 28) rfl (by omega) (by omega)
      rw [mo_f39, mo_t1, mo_n1, mo_s1, ms_u r5.1 r5.2]
      exact ⟨⟨by omega, by omega⟩, rfl, by omega, main ak _ 0 (u3 S 5 k 28 1) _ _ (Nat.le_refl _) e0.symm (ok_28 (Or.inr rfl) h) (fa_up fa_refl rfl) fa_refl am_up_eq (fun j j1 j2 => by rw [am_up_eq]; exact cpy_k ⟨j1, j2⟩) _⟩
  have at11 : ∀ c, (c = 0 ∧ (k = -1 ∨ (0 ≤ k ∧ k < S 0 0 3))) ∨ (c = 1 ∧ ¬ (k = -1 ∨ (0 ≤ k ∧ k < S 0 0 3))) → ∀ o2, am_W m_X5_ahead (am_ev am_prog (d + 3)) K 11 [some (.inr (.inl r)), some (.inl (k)), o2] [.inl c, .inr (.inl r)] (mo b r (ms S) V W) := by
    intro c hc o2
    refine r_X5_ahead_11 ⟨mo_ty, ?_⟩
    rw [mo_si]
    refine r_X5_ahead_12 ?_
    rw [mo_i, am_up_eq]
    rcases hc with ⟨c0, ak⟩ | ⟨c1, ak⟩
    · rw [c0]
      exact ⟨mo_ty, fun _ => keep ak _, fun z => absurd z (by decide)⟩
    · rw [c1]
      exact ⟨mo_ty, fun z => absurd z (by decide), fun _ => r_X5_ahead_15 (MR_up (H0 ak))⟩
  refine r_X5_ahead_0 ⟨fun z => r_X5_ahead_10 (at11 0 (Or.inl ⟨rfl, Or.inl z⟩) _), fun z => r_X5_ahead_4 ⟨mo_ty, ?_⟩⟩
  refine c_isMachine (am_av (r_X5_ahead_7 ⟨fun y => r_X5_ahead_10 (at11 0 (Or.inl ⟨rfl, Or.inr ?_⟩) _), fun y => r_X5_ahead_8 (at11 1 (Or.inr ⟨rfl, fun w => ?_⟩) _)⟩))
  · exact Classical.byContradiction fun c => y (am_bf c)
  · have kb := w.resolve_left z
    exact absurd ((am_bt kb).symm.trans y) (by decide)
end
