set_option maxRecDepth 100000
/-! the model reads rules -/
def ruL (ru : am_Ru) : Int := match ru.2.2.2 with
  | none => 0
  | some c => c.cd.length
/-- a rule's numbers and its code -/
def ruV (y : Int → Int) (j w0 : Int) (ru : am_Ru) : Prop := y (2 + 5 * j) = ru.1 ∧ y ((2 + 5 * j) + 1) = ru.2.1 ∧ y ((2 + 5 * j) + 2) = ru.2.2.1 ∧ match ru.2.2.2 with
  | none => y ((2 + 5 * j) + 3) = 0 ∧ y ((2 + 5 * j) + 4) = 0
  | some c => y ((2 + 5 * j) + 3) = w0 ∧ y ((2 + 5 * j) + 4) = c.cd.length ∧ cdA y w0 c.cd
def ocL (oc : Option am_Cd) : Int := match oc with
  | none => 0
  | some c => c.cd.length
def ocV (y : Int → Int) (j w0 : Int) (oc : Option am_Cd) : Prop := match oc with
  | none => y ((2 + 5 * j) + 3) = 0 ∧ y ((2 + 5 * j) + 4) = 0
  | some c => y ((2 + 5 * j) + 3) = w0 ∧ y ((2 + 5 * j) + 4) = c.cd.length ∧ cdA y w0 c.cd
section
variable {K : am_K} {b : am_H} {r : Nat} {S : am_G} {V : Nat → Int → Int} {W : Nat → Int}
theorem c_readIf {t : Int → Int} {n j x1 a : Int} {m : Bool} {D : Nat} (hD : 45 ≤ D) (hn : n ≤ 400) (cs : CsC b r) (ci : csM b r 18 wIf) (hm : x1 = if m = true then 1 else 0) (h45 : W 45 = n) (h46 : W 46 = a) (ha : 0 ≤ a ∧ a ≤ n) (h48 : W 48 = 0) (h57 : W 57 = j) (hj : 0 ≤ j ∧ j < 12) (tp : tpR t (V 4) n) (h58 : 62 ≤ W 58 ∧ W 58 + (n - a) ≤ 562) (v3 : V 10 ((2 + 5 * j) + 3) = 0) (v4 : V 10 ((2 + 5 * j) + 4) = 0) (H0 : ∀ x V' W', ifR t n m a = .inl x → fa [10] V V' → fa [46, 47, 48, 49, 58] W W' → W' 47 = x → K (.inl (some (.inl (0)))) (mo b r (ms S) V' W')) (H1 : ∀ q V' W', ifR t n m a = .inr q → fa [10] V V' → fa [46, 47, 48, 49, 58] W W' → W' 46 = q.1 → W' 47 = W 47 → W' 48 = 0 → W' 58 = W 58 + ocL q.2 → ocV (V' 10) j (W 58) q.2 → (∀ i, i < W 58 → i ≠ (2 + 5 * j) + 3 → i ≠ (2 + 5 * j) + 4 → V' 10 i = V 10 i) → K (.inl (some (.inl (1)))) (mo b r (ms S) V' W')) : am_ev am_prog D 324 [.inr (.inl r), .inl x1] (mo b r (ms S) V W) K := by
  have bv := bE_v (t := t) (n := n) (a := a)
  have be := bv.1.2 ha.2
  obtain ⟨d, rfl⟩ : ∃ d, D = d + 4 := ⟨D - 4, by omega⟩
  refine am_en p_X5_readIf rfl rfl ?_
  refine w_readIf_0 (c_takes (t := t) (n := n) (by omega) h45 hn (by omega) tp ci (by decide) (fun W1 nw hW1 f46 => am_av (w_readIf_3 ⟨fun z => absurd rfl z, fun _ => ⟨fun z => ?_, fun z => ?_⟩⟩)) (fun W1 yw hW1 f46 => am_av (w_readIf_3 ⟨fun _ => ?_, fun z => absurd z (by decide)⟩)))
  · rw [h46] at nw f46
    have m0 : m ≠ true := fun e => by
      rw [if_pos e] at hm
      omega
    have er : ifR t n m a = .inr (bE t n a, none) := by
      unfold ifR
      rw [if_neg nw, if_neg m0]
    refine H1 _ V W1 er fa_refl (fa_sub hW1 rfl) f46 (hW1 47 rfl) ((hW1 48 rfl).trans h48) ?_ ⟨v3, v4⟩ (fun i _ _ _ => rfl)
    rw [hW1 58 rfl]
    show W 58 = W 58 + 0
    omega
  · rw [h46] at nw f46
    have m1 : m = true := by
      by_cases e : m = true
      · exact e
      · rw [if_neg e] at hm
        exact absurd hm z
    refine c_fails (by omega) (am_av (w_readIf_8 ?_))
    have b0 : am_b ((0 : Int) ≠ 0) = 0 := by decide
    rw [b0]
    refine H0 (bE t n a) V _ ?_ fa_refl (fa_up (fa_sub hW1 rfl) rfl) (by rw [am_up_eq, f46])
    unfold ifR
    rw [if_neg nw, if_pos m1]
  · rw [h46] at yw f46
    have we := wAt_e yw be
    have we' : bE t n a + 2 ≤ n := we
    have f46' : W1 46 = bE t n a + 2 := f46
    have g57 : W1 57 = j := (hW1 57 rfl).trans h57
    have g58 : W1 58 = W 58 := hW1 58 rfl
    rw [g57, g58]
    refine ⟨by omega, ?_⟩
    have u10 : am_up V 10 (am_uz (V 10) ((2 + 5 * j) + 3) (W 58)) 10 = am_uz (V 10) ((2 + 5 * j) + 3) (W 58) := am_up_eq
    refine rd_cond hn cs _ S _ W1 (bE t n a + 2) _ (by omega) ((hW1 45 rfl).trans h45) f46' (by omega) ((hW1 48 rfl).trans h48) (by rw [am_up_ne (by decide)]; exact tp) (by omega) (fun x V3 W3 hx hV3 hW3 q47 => am_av (w_readIf_30 ⟨fun z => absurd rfl z, fun _ => H0 x V3 W3 ?_ (fa_trans (fa_up fa_refl rfl) hV3) (fa_trans (fa_sub hW1 rfl) hW3) q47⟩)) (fun q V3 W3 hq hV3 hW3 q46 q47 q48 q58 cd3 old3 => am_av (w_readIf_30 ⟨fun _ => ?_, fun z => absurd z (by decide)⟩))
    · unfold ifR
      rw [if_pos yw, hx]
    · have oq := cnR_ok _ q we' hq
      have ol : (q.2.cd.length : Int) ≤ q.1 - (bE t n a + 2) := oq.2.2.2.2.2.1
      have oe := oq.1.2
      rw [g58] at cd3 old3 q58
      have e3 : V3 10 ((2 + 5 * j) + 3) = W 58 := by
        rw [old3 _ (by omega), u10, am_uz_eq]
      rw [e3, q58]
      have ed : W 58 + (q.2.cd.length : Int) - W 58 = q.2.cd.length := by omega
      rw [ed]
      refine ⟨by omega, ?_⟩
      have w10 : am_up V3 10 (am_uz (V3 10) ((2 + 5 * j) + 4) (q.2.cd.length : Int)) 10 = am_uz (V3 10) ((2 + 5 * j) + 4) (q.2.cd.length : Int) := am_up_eq
      refine H1 (q.1, some q.2) _ W3 ?_ (fa_up (fa_trans (fa_up fa_refl rfl) hV3) rfl) (fa_trans (fa_sub hW1 rfl) hW3) q46 (q47.trans (hW1 47 rfl)) q48 q58 ⟨?_, ?_, ?_⟩ (fun i i1 i2 i3 => ?_)
      · unfold ifR
        rw [if_pos yw, hq]
      · rw [w10, am_uz_ne (by omega)]
        exact e3
      · rw [w10, am_uz_eq]
      · rw [w10]
        exact fun i hi => by
          rw [am_uz_ne (by omega)]
          exact cd3 i hi
      · rw [w10, am_uz_ne i3, old3 i (by omega), u10, am_uz_ne i2]
end
