set_option maxRecDepth 100000
/-! the component's minute -/
theorem Out_rm {h h' : am_H} {L L' : am_Lb} {x N dz du : Nat} (a : Out h L x N h' L' dz du) (hxN : x ≠ N) (hx : am_ty h x = 1) {Rn : Nat} (hN : am_fr h 1 x = Rn) (hz : x ≤ am_sz h) (hl : L x = (x, 0, 0, 0)) : am_ty h' x = 1 ∧ am_fr h' 1 x = Rn ∧ x ≤ am_sz h' ∧ L' x = (x, 0, 0, 0) := by
  have n : ¬ ((L x).1 = N ∨ ((L x).1 = x ∧ (L x).2.1 = 1)) := by
    rw [hl]
    intro z
    rcases z with z | z
    · exact hxN z
    · exact absurd z.2 (show ¬ ((0 : Nat) = 1) by decide)
  have q := a.1.2.2.2 x hz
  exact ⟨q.1.trans hx, ((q.2.2 n).2.1 1).trans hN, Nat.le_trans hz a.1.1, (a.2.1 x hz).trans hl⟩
theorem Out_mn {h h1 h2 : am_H} {L L1 L2 : am_Lb} {x N d1 u1 d2 u2 : Nat} (a : Out h L x N h1 L1 d1 u1) (b : Out h1 L1 x N h2 L2 d2 u2) : Out h L x N h2 L2 (am_sz h2 - am_sz h) (am_us h2 - am_us h) := by
  have c := Out_tr a b
  exact ⟨c.1, c.2.1, ⟨by have := c.1.1; omega, by have := c.1.2.1; omega⟩, c.2.2.2⟩
theorem okT_rs {S : am_G} {R : Int} (hR : 0 ≤ R ∧ R ≤ 8) (h0 : okT0 S) (h5 : okT5 S) : okC (rs S R) ∧ okF (rs S R) ∧ okG (rs S R) ∧ okM (rs S R) ∧ okA (rs S R) ∧ okY (rs S R) ∧ okY1 (rs S R) ∧ okWs (rs S R) ∧ okJ (rs S R) := by
  have e : ∀ c, c ≠ 0 → rs S R c = S c := fun c hc => rs_r hc
  have v : ∀ j, j ≠ 7 → rs S R 0 0 j = S 0 0 j := fun j hj => rs_j hj
  have v7 : rs S R 0 0 7 = R := u3_eq
  obtain ⟨hC, hF, hG, hA, hY, hY1, hW, hg, h00, hX⟩ := h0
  obtain ⟨hM, hJ, hJg⟩ := h5
  refine ⟨?_, ?_, ?_, ?_, ?_, ?_, ?_, ?_, ?_⟩
  · unfold okC
    rw [v 0 (by decide), v7, v 1 (by decide), v 3 (by decide), v 5 (by decide), v 6 (by decide)]
    have := hC
    unfold okC at this
    omega
  · unfold okF
    rw [v 1 (by decide), e 2 (by decide)]
    exact hF
  · unfold okG
    rw [v 4 (by decide), e 4 (by decide)]
    exact hG
  · unfold okM isP
    rw [v 1 (by decide), e 2 (by decide), e 5 (by decide)]
    exact hM
  · unfold okA okL isP
    rw [v 1 (by decide), v 4 (by decide), e 2 (by decide), e 3 (by decide)]
    exact hA
  · unfold okY
    rw [v 2 (by decide), e 6 (by decide)]
    exact hY
  · unfold okY1
    rw [v 2 (by decide), e 6 (by decide)]
    exact hY1
  · unfold okWs
    rw [e 1 (by decide)]
    exact hW
  · unfold okJ
    rw [v 3 (by decide), e 3 (by decide), e 5 (by decide)]
    exact hJ
/-- the model's notes in a turn -/
theorem ms_7 {S S1 : am_G} {k a : Int} : msF S k S1 a 0 = S1 0 := by
  unfold msF rwW fx5
  split <;> split
  · exact u3_r (by decide)
  · rfl
  · rw [u3_r (by decide), u3_r (by decide)]
  · rw [u3_r (by decide)]
theorem ms_10 {S S1 : am_G} {k a i R : Int} (h7 : S1 0 0 7 = R + 1) (h10 : S1 10 = S 10) : msF S k S1 a 10 0 i = if a ≠ -1 ∧ i = 1 + 5 * R + k then a else S 10 0 i := by
  have f10 : fx5 S k S1 10 = S 10 := by
    unfold fx5
    split
    · rw [u3_r (by decide), h10]
    · exact h10
  have f7 : fx5 S k S1 0 0 7 = R + 1 := by
    unfold fx5
    split
    · rw [u3_nc (by decide), h7]
    · exact h7
  unfold msF rwW
  by_cases c : a = -1
  · rw [if_pos c, if_neg (fun z => z.1 c), f10]
  · rw [if_neg c, f7]
    by_cases g : i = 1 + 5 * R + k
    · rw [if_pos ⟨c, g⟩, g]
      have e : (R + 1 - 1 : Int) = R := by omega
      rw [e, u3_eq]
    · rw [if_neg (fun z => g z.2), u3_no (by omega), f10]
/-- rows and slugs ahead of a turn -/
def okRn (S : am_G) (R : Int) : Prop := (∀ s, 0 ≤ s → s < S 0 0 4 → S 4 s 2 ≤ S 0 0 0) ∧ (∀ i, 0 ≤ i → i < R → S 10 0 (5 * i) < S 0 0 0) ∧ S 10 0 (5 * R) = S 0 0 0 ∧ S 0 0 7 = R + 1 ∧ 0 ≤ R ∧ R ≤ 7
def okRw (S : am_G) : Prop := (∀ s, 0 ≤ s → s < S 0 0 4 → S 4 s 2 ≤ S 0 0 0) ∧ (∀ i, 0 ≤ i → i < S 0 0 7 → S 10 0 (5 * i) ≤ S 0 0 0)
theorem okRn_R {S : am_G} {R : Int} (h : okRn S R) : okRw S := by
  obtain ⟨h1, h2, h3, h4, h5⟩ := h
  refine ⟨h1, fun i i1 i2 => ?_⟩
  by_cases e : i = R
  · rw [e, h3]
    exact Int.le_refl _
  · have := h2 i i1 (by omega)
    omega
theorem okRn_0 {S : am_G} (hC : okC S) (h : okRw S) : okRn (mnS S) (mnR0 S) := by
  obtain ⟨v1, v2, v3, v4, v5, v6, v7, v8⟩ := mnS_v (S := S) hC.2.2.2.2.2
  refine ⟨fun s s1 s2 => ?_, fun i i1 i2 => ?_, by rw [v5, v2], v3, v8.1, v8.2⟩
  · rw [v4 4 (by decide) (by decide)] at s2
    rw [v1 4 (by decide) (by decide), v2]
    have := h.1 s s1 s2
    omega
  · have e7 : mnR0 S = if S 0 0 7 = 8 then 7 else S 0 0 7 := rfl
    rw [v7 _ (by omega) (by omega), v2]
    by_cases c : S 0 0 7 = 8
    · rw [if_pos c] at e7 ⊢
      have w := h.2 (i + 1) (by omega) (by omega)
      have e : (5 * (i + 1) : Int) = 5 + 5 * i := by omega
      rw [e] at w
      omega
    · rw [if_neg c] at e7 ⊢
      have w := h.2 i (by omega) (by omega)
      omega
theorem okRn_s {S S1 : am_G} {k a R : Int} (hk : 0 ≤ k ∧ k < 4) (h : okRn S R) (t : tuL S (msF S k S1 a) k a) (h10 : S1 10 = S 10) : okRn (msF S k S1 a) R := by
  obtain ⟨h1, h2, h3, h4, h5⟩ := h
  have e0 := t.1 0 (by decide)
  have e7 := t.1 7 (by decide)
  have s7 : S1 0 0 7 = R + 1 := by
    rw [ms_7] at e7
    rw [e7, h4]
  refine ⟨fun s s1 s2 => ?_, fun i i1 i2 => ?_, ?_, by rw [e7, h4], h5⟩
  · rw [e0]
    by_cases c : s < S 0 0 4
    · rw [(t.2.2.2.2.2.1 s c).2]
      exact h1 s s1 c
    · rcases t.2.2.2.2.2.2.1 with ⟨_, q⟩ | ⟨_, q, _, q2⟩
      · omega
      · have e : s = S 0 0 4 := by omega
        rw [e, q2]
        exact Int.le_refl _
  · rw [e0, ms_10 s7 h10, if_neg (fun z => absurd z.2 (by omega))]
    exact h2 i i1 i2
  · rw [e0, ms_10 s7 h10, if_neg (fun z => absurd z.2 (by omega))]
    exact h3
/-- the costs of turns -/
def unT (S : am_G) : Int := un S 0 + un S 1 + un S 2 + un S 3
def CO (h h' : am_H) (N P : Nat) (S S' : am_G) : Prop := ((am_sz h' : Int) + capG h N + capB h P ≤ am_sz h + capG h' N + capB h' P + (S' 0 0 4 - S 0 0 4) + 100 * (unT S - unT S')) ∧ ((am_us h' : Int) + 5 * capG h N + 2 * capB h P ≤ am_us h + 5 * capG h' N + 2 * capB h' P + 11 * (S' 0 0 4 - S 0 0 4) + 1100 * (unT S - unT S')) ∧ unT S' ≤ unT S
theorem CO_tr {h h1 h2 : am_H} {N P : Nat} {S S1 S2 : am_G} (a : CO h h1 N P S S1) (b : CO h1 h2 N P S1 S2) : CO h h2 N P S S2 := by
  unfold CO at *
  omega
theorem unT_s {S S1 : am_G} {k a : Int} (hk : 0 ≤ k ∧ k < 4) (h : un S1 k + stA S k ≤ un S k ∧ ∀ q, q ≠ k → un S1 q ≤ un S q) : unT (msF S k S1 a) + stA S k ≤ unT S := by
  unfold unT
  rw [un_ms, un_ms, un_ms, un_ms]
  have c : k = 0 ∨ k = 1 ∨ k = 2 ∨ k = 3 := by omega
  have h1 := h.1
  rcases c with c | c | c | c <;> rw [c] at h1 h ⊢
  · have a := h.2 1 (by decide)
    have b := h.2 2 (by decide)
    have c := h.2 3 (by decide)
    omega
  · have a := h.2 0 (by decide)
    have b := h.2 2 (by decide)
    have c := h.2 3 (by decide)
    omega
  · have a := h.2 0 (by decide)
    have b := h.2 1 (by decide)
    have c := h.2 3 (by decide)
    omega
  · have a := h.2 0 (by decide)
    have b := h.2 1 (by decide)
    have c := h.2 2 (by decide)
    omega
/-- this minute's notes -/
def EN (h : am_H) (t w : Nat) (S : am_G) (R k : Int) : Prop := ∀ q, 0 ≤ q → q < 4 → (q < k → am_ai h t (4 * R + q) = S 10 0 (1 + 5 * R + q) ∧ am_ai h w (4 * R + q) = lsG S q (S 0 0 0) (S 0 0 4).toNat) ∧ (k ≤ q → S 10 0 (1 + 5 * R + q) = -1 ∧ lsG S q (S 0 0 0) (S 0 0 4).toNat = -1)
theorem EN_s {h h1 : am_H} {t w : Nat} {S S1 : am_G} {R k a : Int} (hk : 0 ≤ k ∧ k < 4) (ht : t ≠ w) (e : EN h t w S R k) (c04 : 0 ≤ S 0 0 4) (tl : tuL S (msF S k S1 a) k a) (h7 : S 0 0 7 = R + 1) (h10 : S1 10 = S 10) (et : am_ai h1 t = am_ai h t) (ew : am_ai h1 w = am_ai h w) : EN (am_sai (am_sai h1 t (4 * R + k) a) w (4 * R + k) a) t w (msF S k S1 a) R (k + 1) := by
  intro q q1 q2
  have w0 := e q q1 q2
  have s7 : S1 0 0 7 = R + 1 := by
    have := tl.1 7 (by decide)
    rw [ms_7] at this
    rw [this, h7]
  have ls := lsG_t (q := q) c04 tl
  rw [x_ais ht, x_aise, x_aise, x_ais (Ne.symm ht), et, ew, ms_10 s7 h10, tl.1 0 (by decide), ls]
  by_cases c : q = k
  · have w1 := w0.2 (by omega)
    rw [c] at w1 ⊢
    refine ⟨fun _ => ?_, fun z => absurd z (by omega)⟩
    rw [am_uz_eq, am_uz_eq]
    by_cases g : a = -1
    · rw [if_neg (fun z => z.1 g), if_neg (fun z => z.1 g), g]
      exact ⟨w1.1.symm, w1.2.symm⟩
    · rw [if_pos ⟨g, rfl⟩, if_pos ⟨g, rfl⟩]
      exact ⟨rfl, rfl⟩
  · rw [am_uz_ne (by omega), am_uz_ne (by omega), if_neg (fun z => absurd z.2 (by omega)), if_neg (fun z => c z.2)]
    exact ⟨fun z => w0.1 (by omega), fun z => w0.2 (by omega)⟩
theorem EN_e {h : am_H} {t w : Nat} {S : am_G} {R k : Int} (ht : t ≠ w) (e : EN h t w S R k) : EN (am_sai (am_sai h t (4 * R + k) (-1)) w (4 * R + k) (-1)) t w S R (k + 1) := by
  intro q q1 q2
  have w0 := e q q1 q2
  rw [x_ais ht, x_aise, x_aise, x_ais (Ne.symm ht)]
  by_cases c : q = k
  · have w1 := w0.2 (by omega)
    rw [c] at w1 ⊢
    refine ⟨fun _ => ?_, fun z => absurd z (by omega)⟩
    rw [am_uz_eq, am_uz_eq]
    exact ⟨w1.1.symm, w1.2.symm⟩
  · rw [am_uz_ne (by omega), am_uz_ne (by omega)]
    exact ⟨fun z => w0.1 (by omega), fun z => w0.2 (by omega)⟩
theorem Nt_en {h : am_H} {L : am_Lb} {x P N : Nat} {S : am_G} {B j a : Int} (t : Nt h L x P N S B) (hj : 4 * S 0 0 7 ≤ j) : Nt (am_sai (am_sai h (am_fr h 30 N) j a) (am_fr h 31 N) j a) L x P N S B ∧ Out h L x N (am_sai (am_sai h (am_fr h 30 N) j a) (am_fr h 31 N) j a) L 0 0 := by
  obtain ⟨r1, r2, r3, r4, r5⟩ := t.2.2.2.1.2.2.2.2.2.2.2.2.2
  have tw := nd_kne r1 r2 (by decide)
  have f : fx (fun q => q = (am_fr h 30 N) ∨ q = (am_fr h 31 N)) h (am_sai (am_sai h (am_fr h 30 N) j a) (am_fr h 31 N) j a) := fx_sai (fx_sai fx_refl (Or.inr (Or.inl rfl))) (Or.inr (Or.inr rfl))
  have hX : ∀ q, q ≤ am_sz h → (q = (am_fr h 30 N) ∨ q = (am_fr h 31 N)) → (L q).1 = N ∧ (L q).2.1 = 10 := fun q hq z => by
    rcases z with z | z
    · rw [z, r1.2.2.2]
      exact ⟨rfl, rfl⟩
    · rw [z, r2.2.2.2]
      exact ⟨rfl, rfl⟩
  refine ⟨Nt_10 t (Int.le_refl _) f leL_refl (okLb_fx f t.1) hX (fun _ _ _ => rfl) (fun _ => rfl) ?_, Out_X t.1 f (fun q hq z => Or.inl (hX q hq z).1) (Nat.le_refl _) (Nat.le_refl _)⟩
  refine ⟨(nd_fy f (leL_refl (L := L)) r1).1, (nd_fy f (leL_refl (L := L)) r2).1, (nd_fy f (leL_refl (L := L)) r1).2.trans r3, (nd_fy f (leL_refl (L := L)) r2).2.trans r4, fun i k i1 i2 k1 k2 => ?_⟩
  rw [x_ais tw, x_aise, x_aise, x_ais (Ne.symm tw), am_uz_ne (by omega), am_uz_ne (by omega)]
  exact r5 i k i1 i2 k1 k2
/-- the minute's end -/
theorem Nt_fin {h : am_H} {L : am_Lb} {x P N : Nat} {S : am_G} {B R : Int} (t : Nt h L x P N (rs S R) B) (hR : okRn S R) (e : EN h (am_fr h 30 N) (am_fr h 31 N) S R 4) : Nt (am_sfi h 32 N (R + 1)) L x P N S B ∧ Out h L x N (am_sfi h 32 N (R + 1)) L 0 0 := by
  obtain ⟨x1, x2, x3, x4, x5, x6, x7, x8, x9, x10⟩ := t.2.2.2.1
  have f : fx (fun q => q = N) h (am_sfi h 32 N (R + 1)) := fx_sfi fx_refl (Or.inr rfl)
  obtain ⟨h1, h2, h3, h4, h5⟩ := hR
  have ec : ∀ c, c ≠ 0 → S c = rs S R c := fun c c0 => (rs_r c0).symm
  have ej : ∀ j, j ≠ 7 → S 0 0 j = rs S R 0 0 j := fun j hj => (rs_j hj).symm
  have hX : ∀ q, q ≤ am_sz h → q = N → (L q).1 = N ∧ (L q).2.1 = 0 := nd_one x1.1
  have zf' : ∀ g, g ≠ 0 → ∀ q, q ≤ am_sz h → q = N → zf L N g q := fun g g0 q hq w => ⟨by rw [(hX q hq w).1]; exact t.2.2.2.2.2.2, fun u => by
    have := (hX q hq w).2
    rw [u.2] at this
    exact g0 this⟩
  have e7 : rs S R 0 0 7 = R := u3_eq
  refine ⟨Nt_0 t f (fun _ => rfl) ec (ej 2 (by decide)) (ej 4 (by decide)) (ej 5 (by decide)) (ej 6 (by decide)) ?_ ?_ ?_ ?_, Out_X t.1 f (fun q hq z => Or.inl (hX q hq z).1) (Nat.le_refl _) (Nat.le_refl _)⟩
  · refine ⟨(nd_fy f (leL_refl (L := L)) x1.1).1, x1.2.1, ?_, ?_, ?_, ?_, ?_⟩
    · rw [x_fif (by decide), x1.2.2.1, ej 0 (by decide)]
    · rw [x_fif (by decide), x1.2.2.2.1, ej 1 (by decide)]
    · rw [x_fif (by decide), x1.2.2.2.2.1, ej 3 (by decide)]
    · rw [x_fie, h4]
    · rw [x_fif (by decide), x1.2.2.2.2.2.2]
      exact (crN_c (ec 4 (by decide)) (ej 4 (by decide))).symm
  · exact rP_fx f leL_refl t.1 t.2.1.1 (zf' 3 (by decide)) (ej 1 (by decide)) (ec 2 (by decide)) (ec 3 (by decide)) x3
  · refine rM_fx f leL_refl t.1 t.2.1.1 (zf' 5 (by decide)) (Int.le_refl _) (ej 3 (by decide)) (ec 5 (by decide)) (fun k i _ _ _ _ => ?_) x5
    rw [bhd_rs]
  · obtain ⟨r1, r2, r3, r4, r5⟩ := x10
    refine ⟨(nd_fy f (leL_refl (L := L)) r1).1, (nd_fy f (leL_refl (L := L)) r2).1, (nd_fy f (leL_refl (L := L)) r1).2.trans r3, (nd_fy f (leL_refl (L := L)) r2).2.trans r4, fun i k i1 i2 k1 k2 => ?_⟩
    by_cases c : i = R
    · have w := (e k k1 k2).1 (by omega)
      rw [c, h3]
      exact w
    · have w := r5 i k i1 (by rw [e7]; omega) k1 k2
      rw [← ec 10 (by decide), ← ej 4 (by decide)] at w
      exact ⟨w.1, w.2.trans (lsG_c (ec 4 (by decide)) _).symm⟩
section
variable {K : am_K} {h : am_H}
/-- a turn, with the model's notes -/
theorem x_turn1 {L : am_Lb} {x P N : Nat} {S : am_G} {B : Int} {k R : Int} {D : Nat} (hD : 90 ≤ D) (hB2 : B + 2 ≤ 1000000) (t : Nt h L x P N (rs S R) B) (hx : am_ty h x = 1) {Rn : Nat} (hN : am_fr h 1 x = Rn) (hz : x ≤ am_sz h) (hl : L x = (x, 0, 0, 0)) (hB : B ≤ 1000000) (ok : okMn S k) (okr : okRn S R) (hk : 0 ≤ k ∧ k < S 0 0 3) (H : ∀ S1 a h' L', turR S k S1 a → S1 10 = S 10 → Nt h' L' x P N (rs (msF S k S1 a) R) (B + 2) → Out h L x N h' L' (am_sz h' - am_sz h) (am_us h' - am_us h) → G10 h L N h' → CO h h' N P S (msF S k S1 a) → K (.inl (some (.inl (a)))) h') : am_ev am_prog D 302 [.inr (.inl N), .inl k] h K := by
  obtain ⟨q1, q2, q3, q4, q5, q6, q7, q8, q9⟩ := okT_rs (R := R) (by have := okr.2.2.2.2; omega) ok.1 ok.2.1
  have c3 := ok.1.1.2.2.1
  have e7 : rs S R 0 0 7 = R := u3_eq
  refine x_turn hD hB2 t hx hN hz hl hB q1 q2 q3 q4 q5 q6 q7 q8 q9 (by rw [rs_j (by decide)]; exact hk) (fun i i1 i2 => ?_) (fun S' a h' L' tr t' ow g c => ?_)
  · rw [rs_r (by decide), rs_j (by decide)]
    rw [e7] at i2
    exact okr.2.1 i i1 i2
  · obtain ⟨S1, tr1, e1⟩ := turR_rs tr
    have oks := okMn_s hk ok tr1
    have ut := un_tur ok.1 ok.2.1 hk tr1
    have s3 : S1 0 0 3 = S 0 0 3 := by
      have := oks.2.1 3 (by decide)
      rw [ms_7] at this
      exact this
    have s7 : S1 0 0 7 = R + 1 := by
      have := oks.2.1 7 (by decide)
      rw [ms_7] at this
      rw [this, okr.2.2.2.1]
    rw [e1] at t'
    refine H S1 a h' L' tr1 ut.2 (Nt_ms (by rw [s3]; exact hk) s7 t') ow g ?_
    have us := unT_s (a := a) (by omega) ut.1
    have ea : stA (rs S R) k = stA S k := by
      unfold stA
      rw [rs_r (c := 5) (by decide), bhd_rs]
    have e4 : msF S k S1 a 0 0 4 = S1 0 0 4 := by rw [ms_7]
    have s0 : 0 ≤ stA S k := by
      unfold stA
      split <;> decide
    rw [e1, ea, rs_j (by decide), rs_j (by decide)] at c
    unfold CO
    rw [e4]
    omega
end
