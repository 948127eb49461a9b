set_option maxRecDepth 100000
/-! the tape: feed, end, fault -/
theorem w32_and (w : Int32) : (w &&& 255).toInt = ((w.toBitVec.toNat % 256 : Nat) : Int) := by
  have e : (w &&& 255).toBitVec.toNat = w.toBitVec.toNat % 256 := by
    rw [Int32.toBitVec_and, BitVec.toNat_and]
    exact Nat.and_two_pow_sub_one_eq_mod _ 8
  rw [← Int32.toInt_toBitVec, BitVec.toInt_eq_toNat_of_lt]
  · rw [e]
  · rw [e]; omega
theorem w32_b (w : Int32) : w.toInt8.toInt32.toInt = Int.bmod ((w.toBitVec.toNat % 256 : Nat) : Int) 256 := by
  rw [Int8.toInt_toInt32]
  have e : w.toInt8.toBitVec.toNat = w.toBitVec.toNat % 256 := by
    rw [Int32.toBitVec_toInt8, BitVec.signExtend_eq_setWidth_of_le _ (by decide), BitVec.toNat_setWidth]
  rw [← Int8.toInt_toBitVec, BitVec.toInt_eq_toNat_bmod, e]
theorem i2b_id : ∀ y : Int, -128 ≤ y → y ≤ 127 → am_i2bz y = y := fun y h1 h2 => by
  have key : ∀ n : Fin 256, am_i2bz (((n.val : Nat) : Int) - 128) = ((n.val : Nat) : Int) - 128 := by decide +kernel
  have e := key ⟨(y + 128).toNat, by omega⟩
  have e2 : (((y + 128).toNat : Nat) : Int) - 128 = y := by omega
  rw [e2] at e
  exact e
theorem i2b_and (z : Int) : -128 ≤ am_i2bz z ∧ am_i2bz z ≤ 127 ∧ am_i2bz (am_i2bz z) = am_i2bz z ∧ (am_andz z 255 = am_i2bz z ∨ (am_i2bz z < 0 ∧ 128 ≤ am_andz z 255)) := by
  have a : am_andz z 255 = (((Int32.ofInt z).toBitVec.toNat % 256 : Nat) : Int) := w32_and (Int32.ofInt z)
  have b : am_i2bz z = Int.bmod (((Int32.ofInt z).toBitVec.toNat % 256 : Nat) : Int) 256 := w32_b (Int32.ofInt z)
  have m : (Int32.ofInt z).toBitVec.toNat % 256 < 256 := Nat.mod_lt _ (by decide)
  generalize (Int32.ofInt z).toBitVec.toNat % 256 = k at a b m
  have c : Int.bmod (k : Int) 256 = if k < 128 then (k : Int) else (k : Int) - 256 := by
    rw [Int.bmod_def]
    have e : (k : Int) % ((256 : Nat) : Int) = (k : Int) := Int.emod_eq_of_lt (by omega) (by omega)
    rw [e]
    split <;> split <;> omega
  rw [c] at b
  have r : -128 ≤ am_i2bz z ∧ am_i2bz z ≤ 127 := by
    rw [b]
    split <;> omega
  refine ⟨r.1, r.2, i2b_id _ r.1 r.2, ?_⟩
  rw [a, b]
  split <;> omega
/-- a byte of a word, the highest first -/
def fdB (w k : Int) : Int := am_i2bz (am_i2bz (am_shrz w (24 - 8 * k)))
/-- k bytes of a word come -/
def fdK (t : Int → Int) (n w k : Int) : Int → Int := fun j => if n ≤ j ∧ j < n + k then fdB w (j - n) else t j
theorem fdK_0 {t : Int → Int} {n w : Int} : fdK t n w 0 = t := by
  funext j
  exact if_neg (by omega)
theorem fdK_s {t : Int → Int} {n w k : Int} (hk : 0 ≤ k) : am_uz (fdK t n w k) (n + k) (fdB w k) = fdK t n w (k + 1) := by
  funext j
  unfold am_uz fdK
  by_cases e : j = n + k
  · have e2 : j - n = k := by omega
    rw [if_pos e, if_pos (by omega), e2]
  · rw [if_neg e]
    by_cases c : n ≤ j ∧ j < n + k
    · rw [if_pos c, if_pos (by omega)]
    · rw [if_neg c, if_neg (by omega)]
/-- five words come -/
def tFd (t : Int → Int) (n a1 a2 a3 a4 a5 : Int) : Int → Int := fdK (fdK (fdK (fdK (fdK t n a1 4) (n + 4) a2 4) (n + 8) a3 4) (n + 12) a4 4) (n + 16) a5 4
theorem tpR_s {t u : Int → Int} {n w k : Int} (hk : 0 ≤ k) (h : tpR (fdK t n w k) u (n + k)) : tpR (fdK t n w (k + 1)) (am_uz u (n + k) (am_andz (am_shrz w (24 - 8 * k)) 255)) (n + k + 1) := by
  intro j j1 j2
  rw [← fdK_s hk]
  by_cases e : j = n + k
  · rw [e, am_uz_eq, am_uz_eq]
    have q := i2b_and (am_shrz w (24 - 8 * k))
    unfold fdB
    rw [q.2.2.1]
    rcases q.2.2.2 with c | c
    · exact Or.inl c
    · exact Or.inr c
  · rw [am_uz_ne e, am_uz_ne e]
    exact h j j1 (by omega)
section
variable {K : am_K} {b : am_H} {r : Nat} {S : am_G} {V : Nat → Int → Int} {W : Nat → Int}
theorem c_byteCame {v : Int} {D : Nat} (hD : 4 ≤ D) (h44 : 0 ≤ W 44 ∧ W 44 < 400) (H : K (.inl none) (mo b r (ms S) (am_up V 4 (am_uz (V 4) (W 44) (am_andz v 255))) (am_up W 44 (W 44 + 1)))) : am_ev am_prog D 197 [.inr (.inl r), .inl v] (mo b r (ms S) V W) K := by
  obtain ⟨d, rfl⟩ : ∃ d, D = d + 4 := ⟨D - 4, by omega⟩
  refine am_en p_X5_byteCame rfl rfl ?_
  exact w_byteCame_0 ⟨by omega, by omega, H⟩
theorem M_end {m : Int} {D : Nat} (hD : 90 ≤ D) (H0 : ¬ (0 ≤ m ∧ m ≤ W 44) → MR b r K S V W 0 0) (H1 : 0 ≤ m ∧ m ≤ W 44 → ∀ V' W', V' = V → W' 38 = 0 → W' 44 = m → (∀ c, c ≠ 38 → c ≠ 44 → W' c = W c) → K (.inl (some (.inl (1)))) (mo b r (ms S) V' W')) : am_ev am_prog D 41 [.inr (.inl r), .inl m] (mo b r (ms S) V W) K := by
  obtain ⟨d, rfl⟩ : ∃ d, D = d + 4 := ⟨D - 4, by omega⟩
  refine am_en p_X5_end rfl rfl ?_
  exact w_end_0 ⟨fun c => MR_up (H0 (by omega)), fun c => ⟨fun c2 => H1 ⟨c, c2⟩ V _ rfl ((am_up_ne (by decide)).trans am_up_eq) am_up_eq (fun q h1 h2 => (am_up_ne h2).trans (am_up_ne h1)), fun c2 => MR_up (H0 (by omega))⟩⟩
theorem M_fault {D : Nat} (hD : 90 ≤ D) (H : MR b r K S V W 0 (W 47)) : am_ev am_prog D 13 [.inr (.inl r)] (mo b r (ms S) V W) K := by
  obtain ⟨d, rfl⟩ : ∃ d, D = d + 4 := ⟨D - 4, by omega⟩
  refine am_en p_X5_fault rfl rfl ?_
  exact w_fault_0 (MR_up H)
theorem M_feed {t : Int → Int} {n a1 a2 a3 a4 a5 : Int} {D : Nat} (hD : 90 ≤ D) (h44 : W 44 = n) (hn : 0 ≤ n ∧ n ≤ 400) (tp : tpR t (V 4) n) (H0 : 400 < n + 20 → MR b r K S V W 0 (-1)) (H1 : n + 20 ≤ 400 → ∀ V' W', (∀ c, c ≠ 4 → V' c = V c) → tpR (tFd t n a1 a2 a3 a4 a5) (V' 4) (n + 20) → W' 38 = 0 → W' 44 = n + 20 → (∀ c, c ≠ 38 → c ≠ 44 → W' c = W c) → K (.inl (some (.inl (n + 20)))) (mo b r (ms S) V' W')) : am_ev am_prog D 97 [.inr (.inl r), .inl a1, .inl a2, .inl a3, .inl a4, .inl a5] (mo b r (ms S) V W) K := by
  obtain ⟨d, rfl⟩ : ∃ d, D = d + 4 := ⟨D - 4, by omega⟩
  refine am_en p_X5_feed rfl rfl ?_
  refine w_feed_0 ?_
  rw [h44]
  refine ⟨by omega, fun c => ?_, fun c => MR_up (H0 c)⟩
  have HH1 := H1 c
  have l57 : ∀ k, 0 ≤ k → k ≤ 4 → ∀ V' W', (∀ c, c ≠ 4 → V' c = V c) → tpR (fdK (fdK (fdK (fdK (fdK t n a1 4) (n + 4) a2 4) (n + 8) a3 4) (n + 12) a4 4) (n + 16) a5 k) (V' 4) ((n + 16) + k) → W' 38 = 0 → W' 44 = (n + 16) + k → (∀ c, c ≠ 38 → c ≠ 44 → W' c = W c) → am_W m_X5_feed (am_ev am_prog (d + 3)) K 57 [some (.inr (.inl r)), some (.inl (a1)), some (.inl (a2)), some (.inl (a3)), some (.inl (a4)), some (.inl (a5)), some (.inl (24 - 8 * k))] [] (mo b r (ms S) V' W') := by
    refine lp_z ?_ ?_
    · intro k k1 k2 hL V' W' eV tp' e38 e44 eW
      refine w_feed_57 ⟨fun z => absurd z (by omega), fun _ => c_byteCame (by omega) (by omega) (am_an (w_feed_64 ⟨by omega, ?_⟩))⟩
      have ek : (24 - 8 * k + -8 : Int) = 24 - 8 * (k + 1) := by omega
      rw [ek]
      refine hL _ _ (fun c hc => (am_up_ne hc).trans (eV c hc)) ?_ ((am_up_ne (by decide)).trans e38) (am_up_eq.trans (by omega)) (fun c h1 h2 => (am_up_ne h2).trans (eW c h1 h2))
      have e4 : am_up V' 4 (am_uz (V' 4) (W' 44) (am_andz (am_shrz a5 (24 - 8 * k)) 255)) 4 = am_uz (V' 4) (W' 44) (am_andz (am_shrz a5 (24 - 8 * k)) 255) := am_up_eq
      have e5 : (n + 16) + (k + 1) = (n + 16) + k + 1 := by omega
      rw [e4, e44, e5]
      exact tpR_s k1 tp'
    · intro V' W' eV tp' e38 e44 eW
      refine w_feed_57 ⟨fun _ => ?_, fun z => absurd z (by omega)⟩
      have e5 : n + 16 + 4 = n + 20 := by omega
      rw [e5] at tp' e44
      rw [e44]
      exact HH1 V' W' eV tp' e38 e44 eW
  have l46 : ∀ k, 0 ≤ k → k ≤ 4 → ∀ V' W', (∀ c, c ≠ 4 → V' c = V c) → tpR (fdK (fdK (fdK (fdK t n a1 4) (n + 4) a2 4) (n + 8) a3 4) (n + 12) a4 k) (V' 4) ((n + 12) + k) → W' 38 = 0 → W' 44 = (n + 12) + k → (∀ c, c ≠ 38 → c ≠ 44 → W' c = W c) → am_W m_X5_feed (am_ev am_prog (d + 3)) K 46 [some (.inr (.inl r)), some (.inl (a1)), some (.inl (a2)), some (.inl (a3)), some (.inl (a4)), some (.inl (a5)), some (.inl (24 - 8 * k))] [] (mo b r (ms S) V' W') := by
    refine lp_z ?_ ?_
    · intro k k1 k2 hL V' W' eV tp' e38 e44 eW
      refine w_feed_46 ⟨fun z => absurd z (by omega), fun _ => c_byteCame (by omega) (by omega) (am_an (w_feed_53 ⟨by omega, ?_⟩))⟩
      have ek : (24 - 8 * k + -8 : Int) = 24 - 8 * (k + 1) := by omega
      rw [ek]
      refine hL _ _ (fun c hc => (am_up_ne hc).trans (eV c hc)) ?_ ((am_up_ne (by decide)).trans e38) (am_up_eq.trans (by omega)) (fun c h1 h2 => (am_up_ne h2).trans (eW c h1 h2))
      have e4 : am_up V' 4 (am_uz (V' 4) (W' 44) (am_andz (am_shrz a4 (24 - 8 * k)) 255)) 4 = am_uz (V' 4) (W' 44) (am_andz (am_shrz a4 (24 - 8 * k)) 255) := am_up_eq
      have e5 : (n + 12) + (k + 1) = (n + 12) + k + 1 := by omega
      rw [e4, e44, e5]
      exact tpR_s k1 tp'
    · intro V' W' eV tp' e38 e44 eW
      refine w_feed_46 ⟨fun _ => ?_, fun z => absurd z (by omega)⟩
      have e5 : (n + 12) + 4 = (n + 16) := by omega
      rw [e5] at tp' e44
      have q := l57 0 (by omega) (by omega) V' W' eV (by rw [fdK_0]; rw [show (n + 16) + 0 = (n + 16) by omega]; exact tp') e38 (by omega) eW
      exact q
  have l35 : ∀ k, 0 ≤ k → k ≤ 4 → ∀ V' W', (∀ c, c ≠ 4 → V' c = V c) → tpR (fdK (fdK (fdK t n a1 4) (n + 4) a2 4) (n + 8) a3 k) (V' 4) ((n + 8) + k) → W' 38 = 0 → W' 44 = (n + 8) + k → (∀ c, c ≠ 38 → c ≠ 44 → W' c = W c) → am_W m_X5_feed (am_ev am_prog (d + 3)) K 35 [some (.inr (.inl r)), some (.inl (a1)), some (.inl (a2)), some (.inl (a3)), some (.inl (a4)), some (.inl (a5)), some (.inl (24 - 8 * k))] [] (mo b r (ms S) V' W') := by
    refine lp_z ?_ ?_
    · intro k k1 k2 hL V' W' eV tp' e38 e44 eW
      refine w_feed_35 ⟨fun z => absurd z (by omega), fun _ => c_byteCame (by omega) (by omega) (am_an (w_feed_42 ⟨by omega, ?_⟩))⟩
      have ek : (24 - 8 * k + -8 : Int) = 24 - 8 * (k + 1) := by omega
      rw [ek]
      refine hL _ _ (fun c hc => (am_up_ne hc).trans (eV c hc)) ?_ ((am_up_ne (by decide)).trans e38) (am_up_eq.trans (by omega)) (fun c h1 h2 => (am_up_ne h2).trans (eW c h1 h2))
      have e4 : am_up V' 4 (am_uz (V' 4) (W' 44) (am_andz (am_shrz a3 (24 - 8 * k)) 255)) 4 = am_uz (V' 4) (W' 44) (am_andz (am_shrz a3 (24 - 8 * k)) 255) := am_up_eq
      have e5 : (n + 8) + (k + 1) = (n + 8) + k + 1 := by omega
      rw [e4, e44, e5]
      exact tpR_s k1 tp'
    · intro V' W' eV tp' e38 e44 eW
      refine w_feed_35 ⟨fun _ => ?_, fun z => absurd z (by omega)⟩
      have e5 : (n + 8) + 4 = (n + 12) := by omega
      rw [e5] at tp' e44
      have q := l46 0 (by omega) (by omega) V' W' eV (by rw [fdK_0]; rw [show (n + 12) + 0 = (n + 12) by omega]; exact tp') e38 (by omega) eW
      exact q
  have l24 : ∀ k, 0 ≤ k → k ≤ 4 → ∀ V' W', (∀ c, c ≠ 4 → V' c = V c) → tpR (fdK (fdK t n a1 4) (n + 4) a2 k) (V' 4) ((n + 4) + k) → W' 38 = 0 → W' 44 = (n + 4) + k → (∀ c, c ≠ 38 → c ≠ 44 → W' c = W c) → am_W m_X5_feed (am_ev am_prog (d + 3)) K 24 [some (.inr (.inl r)), some (.inl (a1)), some (.inl (a2)), some (.inl (a3)), some (.inl (a4)), some (.inl (a5)), some (.inl (24 - 8 * k))] [] (mo b r (ms S) V' W') := by
    refine lp_z ?_ ?_
    · intro k k1 k2 hL V' W' eV tp' e38 e44 eW
      refine w_feed_24 ⟨fun z => absurd z (by omega), fun _ => c_byteCame (by omega) (by omega) (am_an (w_feed_31 ⟨by omega, ?_⟩))⟩
      have ek : (24 - 8 * k + -8 : Int) = 24 - 8 * (k + 1) := by omega
      rw [ek]
      refine hL _ _ (fun c hc => (am_up_ne hc).trans (eV c hc)) ?_ ((am_up_ne (by decide)).trans e38) (am_up_eq.trans (by omega)) (fun c h1 h2 => (am_up_ne h2).trans (eW c h1 h2))
      have e4 : am_up V' 4 (am_uz (V' 4) (W' 44) (am_andz (am_shrz a2 (24 - 8 * k)) 255)) 4 = am_uz (V' 4) (W' 44) (am_andz (am_shrz a2 (24 - 8 * k)) 255) := am_up_eq
      have e5 : (n + 4) + (k + 1) = (n + 4) + k + 1 := by omega
      rw [e4, e44, e5]
      exact tpR_s k1 tp'
    · intro V' W' eV tp' e38 e44 eW
      refine w_feed_24 ⟨fun _ => ?_, fun z => absurd z (by omega)⟩
      have e5 : (n + 4) + 4 = (n + 8) := by omega
      rw [e5] at tp' e44
      have q := l35 0 (by omega) (by omega) V' W' eV (by rw [fdK_0]; rw [show (n + 8) + 0 = (n + 8) by omega]; exact tp') e38 (by omega) eW
      exact q
  have l13 : ∀ k, 0 ≤ k → k ≤ 4 → ∀ V' W', (∀ c, c ≠ 4 → V' c = V c) → tpR (fdK t n a1 k) (V' 4) (n + k) → W' 38 = 0 → W' 44 = n + k → (∀ c, c ≠ 38 → c ≠ 44 → W' c = W c) → am_W m_X5_feed (am_ev am_prog (d + 3)) K 13 [some (.inr (.inl r)), some (.inl (a1)), some (.inl (a2)), some (.inl (a3)), some (.inl (a4)), some (.inl (a5)), some (.inl (24 - 8 * k))] [] (mo b r (ms S) V' W') := by
    refine lp_z ?_ ?_
    · intro k k1 k2 hL V' W' eV tp' e38 e44 eW
      refine w_feed_13 ⟨fun z => absurd z (by omega), fun _ => c_byteCame (by omega) (by omega) (am_an (w_feed_20 ⟨by omega, ?_⟩))⟩
      have ek : (24 - 8 * k + -8 : Int) = 24 - 8 * (k + 1) := by omega
      rw [ek]
      refine hL _ _ (fun c hc => (am_up_ne hc).trans (eV c hc)) ?_ ((am_up_ne (by decide)).trans e38) (am_up_eq.trans (by omega)) (fun c h1 h2 => (am_up_ne h2).trans (eW c h1 h2))
      have e4 : am_up V' 4 (am_uz (V' 4) (W' 44) (am_andz (am_shrz a1 (24 - 8 * k)) 255)) 4 = am_uz (V' 4) (W' 44) (am_andz (am_shrz a1 (24 - 8 * k)) 255) := am_up_eq
      have e5 : n + (k + 1) = n + k + 1 := by omega
      rw [e4, e44, e5]
      exact tpR_s k1 tp'
    · intro V' W' eV tp' e38 e44 eW
      refine w_feed_13 ⟨fun _ => ?_, fun z => absurd z (by omega)⟩
      have e5 : n + 4 = (n + 4) := by omega
      rw [e5] at tp' e44
      have q := l24 0 (by omega) (by omega) V' W' eV (by rw [fdK_0]; rw [show (n + 4) + 0 = (n + 4) by omega]; exact tp') e38 (by omega) eW
      exact q
  have q := l13 0 (by omega) (by omega) V (am_up W 38 0) (fun _ _ => rfl) (by rw [fdK_0]; rw [show n + 0 = n by omega]; exact tp) am_up_eq ((am_up_ne (by decide)).trans (by omega)) (fun c h1 _ => am_up_ne h1)
  exact q
end
section
variable {K : am_K} {h : am_H}
theorem TpX_m {h h' : am_H} {L L' : am_Lb} {x : Nat} {t : Int → Int} {n : Int} (f : fx (fun q => q = x) h h') (le : leL h L L') (hr : am_fr h' 3 x = am_fr h 3 x) (hne : am_fr h 3 x ≠ x) {m : Int} (hm : 0 ≤ m ∧ m ≤ n) (i4 : am_fi h' 4 x = m) (tp : TpX h L x t n) : TpX h' L' x t m := by
  obtain ⟨p1, p2, p3, p4, p5⟩ := tp
  have y := nd_fx f le p2 hne
  unfold TpX
  rw [hr]
  exact ⟨i4, y.1, y.2.1.trans p3, by omega, fun j j1 j2 => by rw [y.2.2.2.2.1]; exact p5 j j1 (by omega)⟩
theorem x_four {L : am_Lb} {x P N : Nat} {S : am_G} {B : Int} {t : Int → Int} {n w : Int} {D : Nat} (hD : 13 ≤ D) (hx : am_ty h x = 1) (hz : x ≤ am_sz h) (tp : TpX h L x t n) (hn : n + 4 ≤ 400) (H : ∀ h', fx (fun q => q = x ∨ q = (am_fr h 3 x)) h h' → am_sz h' = am_sz h → am_us h' = am_us h → (∀ f, am_fr h' f x = am_fr h f x) → (∀ f, f ≠ 4 → am_fi h' f x = am_fi h f x) → am_ty h' x = 1 → TpX h' L x (fdK t n w 4) (n + 4) → K (.inl none) h') : am_ev am_prog D 177 [.inr (.inl x), .inl w] h K := by
  obtain ⟨d, rfl⟩ : ∃ d, D = d + 13 := ⟨D - 13, by omega⟩
  refine am_en p_X1_four rfl rfl ?_
  refine v_X1_four_0 ?_
  obtain ⟨p1, p2, p3, p4, p5⟩ := tp
  have main : ∀ k, 0 ≤ k → k ≤ 4 → ∀ h', fx (fun q => q = x ∨ q = (am_fr h 3 x)) h h' → am_sz h' = am_sz h → am_us h' = am_us h → (∀ f, am_fr h' f x = am_fr h f x) → (∀ f, f ≠ 4 → am_fi h' f x = am_fi h f x) → TpX h' L x (fdK t n w k) (n + k) → am_W m_X1_four (am_ev am_prog (d + 12)) K 2 [some (.inr (.inl (x))), some (.inl (w)), some (.inl (24 - 8 * k))] [] h' := by
    refine lp_z ?_ ?_
    · intro k k1 k2 hL h' f z u hr hi tp'
      obtain ⟨q1, q2, q3, q4, q5⟩ := tp'
      have tx : am_ty h' x = 1 := (f.2.2.2 x hz).1.trans hx
      refine v_X1_four_2 ?_
      rw [hr 3] at q2 q3 q5 ⊢
      rw [q1, q3]
      refine ⟨fun c => absurd c (by omega), fun _ => ⟨⟨tx, q2.1, by omega⟩, by omega, by omega, ?_⟩⟩
      have ek : (24 - 8 * k + -8 : Int) = 24 - 8 * (k + 1) := by omega
      rw [ek]
      refine hL _ (fx_sfi (fx_sai f (Or.inr (Or.inr rfl))) (Or.inr (Or.inl rfl))) z u hr (fun g hg => (x_fif hg).trans (hi g hg)) ⟨x_fie.trans (by omega), ?_⟩
      have e3 : am_fr (am_sfi (am_sai h' (am_fr h 3 x) (n + k) (am_i2bz (am_i2bz (am_shrz w (24 - 8 * k))))) 4 x (n + k + 1)) 3 x = (am_fr h 3 x) := hr 3
      rw [e3]
      refine ⟨q2, q3, by omega, fun j j1 j2 => ?_⟩
      have ea : am_ai (am_sfi (am_sai h' (am_fr h 3 x) (n + k) (am_i2bz (am_i2bz (am_shrz w (24 - 8 * k))))) 4 x (n + k + 1)) (am_fr h 3 x) = am_uz (am_ai h' (am_fr h 3 x)) (n + k) (fdB w k) := x_aise (h := h')
      rw [ea, ← fdK_s k1]
      by_cases e : j = n + k
      · rw [e, am_uz_eq, am_uz_eq]
      · rw [am_uz_ne e, am_uz_ne e]
        exact q5 j j1 (by omega)
    · intro h' f z u hr hi tp'
      refine v_X1_four_2 ⟨fun _ => H h' f z u hr hi ((f.2.2.2 x hz).1.trans hx) tp', fun c => absurd c (by omega)⟩
  refine main 0 (by omega) (by omega) h fx_refl rfl rfl (fun _ => rfl) (fun _ _ => rfl) ?_
  have e0 : n + 0 = n := by omega
  rw [fdK_0, e0]
  exact ⟨p1, p2, p3, p4, p5⟩
theorem X_feed {L : am_Lb} {x P N : Nat} {S : am_G} {B : Int} {t : Int → Int} {n a1 a2 a3 a4 a5 : Int} {D : Nat} (hD : 90 ≤ D) (tt : Nt h L x P N S B) (hx : am_ty h x = 1) (hz : x ≤ am_sz h) (hl : L x = (x, 0, 0, 0)) (tp : TpX h L x t n) (H0 : 400 < n + 20 → K (.inl (some (.inl (-1)))) h) (H1 : n + 20 ≤ 400 → ∀ h', Nt h' L x P N S B → OutX h L x N h' L 0 0 → TpX h' L x (tFd t n a1 a2 a3 a4 a5) (n + 20) → am_fi h' 5 x = am_fi h 5 x → K (.inl (some (.inl (n + 20)))) h') : am_ev am_prog D 80 [.inr (.inl x), .inl a1, .inl a2, .inl a3, .inl a4, .inl a5] h K := by
  have p1 := tp.1
  have p4 := tp.2.2.2.1
  have lt := tp.2.1.2.2.2
  obtain ⟨d, rfl⟩ : ∃ d, D = d + 13 := ⟨D - 13, by omega⟩
  refine am_en p_X1_feed rfl rfl ?_
  refine v_X1_feed_0 ?_
  rw [p1]
  refine ⟨⟨hx, by omega⟩, fun c => ?_, fun c => H0 c⟩
  refine x_four (P := P) (N := N) (S := S) (B := B) (by omega) hx hz tp (by omega) (fun h1 f1 z1 u1 r1 i1 x1 t1 => am_an (v_X1_feed_11 ⟨x1, ?_⟩))
  refine x_four (P := P) (N := N) (S := S) (B := B) (by omega) x1 (by omega) t1 (by omega) (fun h2 f2 z2 u2 r2 i2 x2 t2 => am_an (v_X1_feed_14 ⟨x2, ?_⟩))
  have e8 : n + 4 + 4 = n + 8 := by omega
  rw [e8] at t2
  refine x_four (P := P) (N := N) (S := S) (B := B) (by omega) x2 (by omega) t2 (by omega) (fun h3 f3 z3 u3 r3 i3 x3 t3 => am_an (v_X1_feed_17 ⟨x3, ?_⟩))
  have e12 : n + 8 + 4 = n + 12 := by omega
  rw [e12] at t3
  refine x_four (P := P) (N := N) (S := S) (B := B) (by omega) x3 (by omega) t3 (by omega) (fun h4 f4 z4 u4 r4 i4 x4 t4 => am_an (v_X1_feed_20 ⟨x4, ?_⟩))
  have e16 : n + 12 + 4 = n + 16 := by omega
  rw [e16] at t4
  refine x_four (P := P) (N := N) (S := S) (B := B) (by omega) x4 (by omega) t4 (by omega) (fun h5 f5 z5 u5 r5 i5 x5 t5 => am_an (v_X1_feed_23 ⟨x5, ?_⟩))
  have e20 : n + 16 + 4 = n + 20 := by omega
  rw [e20] at t5
  rw [t5.1]
  have g : fx (fun q => q = x ∨ q = (am_fr h 3 x)) h h5 := by
    rw [r1 3] at f2
    rw [r2 3, r1 3] at f3
    rw [r3 3, r2 3, r1 3] at f4
    rw [r4 3, r3 3, r2 3, r1 3] at f5
    exact fx_trans (fx_trans (fx_trans (fx_trans f1 f2) f3) f4) f5
  have gl : ∀ q, q ≤ am_sz h → (q = x ∨ q = (am_fr h 3 x)) → (L q).1 = x ∧ (L q).2.1 ≠ 1 := fun q _ z => by
    rcases z with z | z
    · rw [z, hl]
      exact ⟨rfl, by show (0 : Nat) ≠ 1; decide⟩
    · rw [z, lt]
      exact ⟨rfl, by show (2 : Nat) ≠ 1; decide⟩
  refine H1 c h5 (Nt_x tt g gl) ⟨fx_sub g (fun q _ z => ?_), leL_refl, ⟨by omega, by omega⟩, fun q hq => Or.inl (tt.1.2.2 q hq), fun f => (r5 f).trans ((r4 f).trans ((r3 f).trans ((r2 f).trans (r1 f)))), fun f h4 _ => (i5 f h4).trans ((i4 f h4).trans ((i3 f h4).trans ((i2 f h4).trans (i1 f h4))))⟩ t5 ((i5 5 (by decide)).trans ((i4 5 (by decide)).trans ((i3 5 (by decide)).trans ((i2 5 (by decide)).trans (i1 5 (by decide))))))
  rcases z with z | z
  · exact Or.inr (Or.inr z)
  · refine Or.inr (Or.inl ?_)
    rw [z, lt]
    exact ⟨rfl, Or.inr rfl⟩
theorem X_end {L : am_Lb} {x P N : Nat} {S : am_G} {B : Int} {t : Int → Int} {n m : Int} {D : Nat} (hD : 90 ≤ D) (tt : Nt h L x P N S B) (hx : am_ty h x = 1) (hz : x ≤ am_sz h) (hl : L x = (x, 0, 0, 0)) (tp : TpX h L x t n) (H0 : ¬ (0 ≤ m ∧ m ≤ n) → K (.inl (some (.inl (0)))) h) (H1 : 0 ≤ m ∧ m ≤ n → ∀ h', Nt h' L x P N S B → OutX h L x N h' L 0 0 → TpX h' L x t m → am_fi h' 5 x = am_fi h 5 x → K (.inl (some (.inl (1)))) h') : am_ev am_prog D 16 [.inr (.inl x), .inl m] h K := by
  have p1 := tp.1
  have lt := tp.2.1.2.2.2
  have ne : (am_fr h 3 x) ≠ x := fun e => by
    rw [e, hl] at lt
    exact absurd lt (by simp)
  obtain ⟨d, rfl⟩ : ∃ d, D = d + 13 := ⟨D - 13, by omega⟩
  refine am_en p_X1_end rfl rfl ?_
  refine v_X1_end_0 ?_
  rw [p1]
  refine ⟨fun c => H0 (by omega), fun c => ⟨hx, fun c2 => ?_, fun c2 => H0 (by omega)⟩⟩
  have f : fx (fun q => q = x) h (am_sfi h 4 x m) := fx_sfi fx_refl (Or.inr rfl)
  exact H1 ⟨c, c2⟩ _ (Nt_x tt f (fun q _ z => by rw [z, hl]; exact ⟨rfl, by show (0 : Nat) ≠ 1; decide⟩)) ⟨fx_sub f (fun q _ z => Or.inr (Or.inr z)), leL_refl, ⟨Nat.le_refl _, Nat.le_refl _⟩, fun q hq => Or.inl (tt.1.2.2 q hq), fun _ => rfl, fun g h4 _ => x_fif h4⟩ (TpX_m f leL_refl rfl ne ⟨c, c2⟩ x_fie tp) (x_fif (by decide))
theorem X_fault {L : am_Lb} {x P N : Nat} {S : am_G} {B : Int} {D : Nat} (hD : 90 ≤ D) (hx : am_ty h x = 1) (H : K (.inl (some (.inl (am_fi h 5 x)))) h) : am_ev am_prog D 7 [.inr (.inl x)] h K := by
  obtain ⟨d, rfl⟩ : ∃ d, D = d + 13 := ⟨D - 13, by omega⟩
  refine am_en p_X1_fault rfl rfl ?_
  exact v_X1_fault_0 ⟨hx, H⟩
end
