set_option maxRecDepth 100000
/-- thrown: nothing but the new cell -/
def XT (h : am_H) (L : am_Lb) (x P N : Nat) (S : am_G) (B : Int) (K : am_K) (ty : Nat) : Prop := ∀ h' q, Nt h' L x P N S B → Out h L x N h' L 1 6 → am_ty h' q = ty → K (.inr q) h'
/-- answered, the state then S' -/
def XA (h : am_H) (L : am_Lb) (x P N : Nat) (S' : am_G) (B' : Int) (K : am_K) (a : Int) (dz du : Nat) : Prop := ∀ h' L', Nt h' L' x P N S' B' → Out h L x N h' L' dz du → K (.inl (some (.inl (a)))) h'
/-- ended without an answer -/
def XN (h : am_H) (L : am_Lb) (x P N : Nat) (S' : am_G) (B' : Int) (K : am_K) (dz du : Nat) : Prop := ∀ h' L', Nt h' L' x P N S' B' → Out h L x N h' L' dz du → K (.inl none) h'
theorem u3_id {S : am_G} {c : Nat} {p i v : Int} (e : S c p i = v) : u3 S c p i v = S := by
  funext c' p' i'
  unfold u3
  split
  · next q => rw [q.1, q.2.1, q.2.2, e]
  · rfl
section
variable {K : am_K} {h : am_H}
theorem XT_go {L : am_Lb} {x P N : Nat} {S : am_G} {B : Int} {ty : Nat} (t : Nt h L x P N S B) (H : XT h L x P N S B K ty) : K (.inr (am_sz h + 1)) (am_new h ty 6) := H _ _ (Nt_fx0 fx0_new t) (Out_fx0 t.1 fx0_new (Nat.le_refl _) (Nat.le_refl _)) (x_tyn0 rfl)
theorem XA_id {L : am_Lb} {x P N : Nat} {S : am_G} {B : Int} {a : Int} (t : Nt h L x P N S B) (H : XA h L x P N S B K (a) 0 0) : K (.inl (some (.inl (a)))) h := H h L t (Out_fx0 t.1 fx_refl (Nat.le_refl _) (Nat.le_refl _))
theorem XA_v {L : am_Lb} {x P N : Nat} {S : am_G} {B : Int} {a c : Int} {dz du : Nat} (H : XA h L x P N S B K (a) dz du) (e : a = c) : XA h L x P N S B K (c) dz du := by
  rw [← e]
  exact H
/-- a row that was told -/
theorem X_row {L : am_Lb} {x P N : Nat} {S : am_G} {B : Int} {i k : Int} {D : Nat} (hD : 14 ≤ D) (t : Nt h L x P N S B) (hx : am_ty h x = 1) (hN : am_fr h 1 x = N) (hC : okC S) (H0 : ¬ ((0 ≤ i ∧ i < S 0 0 7) ∧ (0 ≤ k ∧ k < 4)) → XT h L x P N S B K 39) (H1 : (0 ≤ i ∧ i < S 0 0 7) ∧ (0 ≤ k ∧ k < 4) → XA h L x P N S B K (S 10 0 (1 + 5 * i + k)) 0 0) : am_ev am_prog D 130 [.inr (.inl x), .inl i, .inl k] h K := by
  obtain ⟨x1, x2, x3, x4, x5, x6, x7, x8, x9, x10⟩ := t.2.2.2.1
  have c7 := hC.2.2.2.2.2
  obtain ⟨d, rfl⟩ : ∃ d, D = d + 13 := ⟨D - 13, by omega⟩
  refine am_en p_X1_row rfl rfl ?_
  refine v_X1_row_0 ?_
  rw [hN, x1.2.2.2.2.2.1, x10.2.2.1]
  refine ⟨⟨hx, x1.1.1⟩, by omega, fun c => XT_go t (H0 (by omega)), fun c => ⟨fun d => XT_go t (H0 (by omega)), fun d => ⟨by omega, ⟨Or.inl x10.1.1, by omega⟩, ?_⟩⟩⟩
  rw [(x10.2.2.2.2 i k (by omega) (by omega) (by omega) (by omega)).1]
  exact XA_id t (H1 (by omega))
/-- a row is torn -/
theorem X_tear {L : am_Lb} {x P N : Nat} {S : am_G} {B : Int} {i k w : Int} {D : Nat} (hD : 14 ≤ D) (t : Nt h L x P N S B) (hx : am_ty h x = 1) (hN : am_fr h 1 x = N) (hC : okC S) (H0 : ¬ ((0 ≤ i ∧ i < S 0 0 7) ∧ (0 ≤ k ∧ k < 4)) → XT h L x P N S B K 39) (H1 : (0 ≤ i ∧ i < S 0 0 7) ∧ (0 ≤ k ∧ k < 4) → XA h L x P N (u3 S 10 0 (1 + 5 * i + k) (am_xorz (S 10 0 (1 + 5 * i + k)) w)) B K (am_xorz (S 10 0 (1 + 5 * i + k)) w) 0 0) : am_ev am_prog D 164 [.inr (.inl x), .inl i, .inl k, .inl w] h K := by
  obtain ⟨x1, x2, x3, x4, x5, x6, x7, x8, x9, x10⟩ := t.2.2.2.1
  have c7 := hC.2.2.2.2.2
  obtain ⟨d, rfl⟩ : ∃ d, D = d + 13 := ⟨D - 13, by omega⟩
  refine am_en p_X1_tear rfl rfl ?_
  refine v_X1_tear_0 ?_
  rw [hN, x1.2.2.2.2.2.1, x10.2.2.1]
  refine ⟨hx, ⟨x1.1.1, by omega⟩, fun c => XT_go t (H0 (by omega)), fun c => ⟨fun d => XT_go t (H0 (by omega)), fun d => ⟨by omega, ⟨Or.inl x10.1.1, by omega, x10.1.1⟩, ?_⟩⟩⟩
  rw [(x10.2.2.2.2 i k (by omega) (by omega) (by omega) (by omega)).1]
  have a : fx (fun q => q = am_fr h 30 N) h (am_sai h (am_fr h 30 N) (4 * i + k) (am_xorz (S 10 0 (1 + 5 * i + k)) w)) := fx_sai fx_refl (Or.inr rfl)
  refine H1 (by omega) _ L (Nt_10 t (Int.le_refl _) a leL_refl (okLb_fx a t.1) (nd_one x10.1) (fun c c1 _ => u3_r c1) (fun j => u3_nc (by decide)) ?_) (Out_G t.1 a (nd_one x10.1) (Nat.le_refl _) (Nat.le_refl _))
  obtain ⟨r1, r2, r3, r4, r5⟩ := x10
  have ne : am_fr h 31 N ≠ am_fr h 30 N := fun e => by
    have e2 := r2.2.2.2
    rw [e, r1.2.2.2] at e2
    injection e2 with _ e2
    injection e2 with _ e2
    injection e2 with e2 _
    exact absurd e2 (by decide)
  have y2 := nd_fx a leL_refl r2 ne
  refine ⟨⟨r1.1, r1.2.1, r1.2.2⟩, y2.1, r3, y2.2.1.trans r4, fun j q j1 j2 q1 q2 => ?_⟩
  rw [u3_nc (by decide)] at j2
  obtain ⟨w1, w2⟩ := r5 j q j1 j2 q1 q2
  rw [y2.2.2.2.2.1, w2, x_aise, u3_nc (c' := 0) (by decide), u3_no (i' := 5 * j) (by omega)]
  refine ⟨?_, (lsG_c (u3_r (by decide)) _).symm⟩
  by_cases e : 4 * j + q = 4 * i + k
  · have e1 : j = i := by omega
    have e2 : q = k := by omega
    rw [e1, e2, am_uz_eq, u3_eq]
  · rw [am_uz_ne e, u3_no (by omega)]
    exact w1
/-- rows that are others than they were -/
theorem X_check {L : am_Lb} {x P N : Nat} {S : am_G} {B : Int} {D : Nat} (hD : 14 ≤ D) (t : Nt h L x P N S B) (hx : am_ty h x = 1) (hN : am_fr h 1 x = N) (hC : okC S) (H : ∀ a, ((a = -1 ∧ ∀ i k, 0 ≤ i → i < S 0 0 7 → 0 ≤ k → k < 4 → S 10 0 (1 + 5 * i + k) = lsG S k (S 10 0 (5 * i)) (S 0 0 4).toNat) ∨ (∃ i k, (0 ≤ i ∧ i < S 0 0 7) ∧ (0 ≤ k ∧ k < 4) ∧ a = 4 * i + k ∧ S 10 0 (1 + 5 * i + k) ≠ lsG S k (S 10 0 (5 * i)) (S 0 0 4).toNat ∧ ∀ j q, 0 ≤ j → 0 ≤ q → q < 4 → 4 * j + q < a → S 10 0 (1 + 5 * j + q) = lsG S q (S 10 0 (5 * j)) (S 0 0 4).toNat)) → XA h L x P N S B K (a) 0 0) : am_ev am_prog D 3 [.inr (.inl x)] h K := by
  obtain ⟨x1, x2, x3, x4, x5, x6, x7, x8, x9, x10⟩ := t.2.2.2.1
  have c7 := hC.2.2.2.2.2
  obtain ⟨d, rfl⟩ : ∃ d, D = d + 13 := ⟨D - 13, by omega⟩
  refine am_en p_X1_check rfl rfl ?_
  refine v_X1_check_0 ?_
  have main : ∀ c, 0 ≤ c → c ≤ 4 * S 0 0 7 → (∀ j q, 0 ≤ j → 0 ≤ q → q < 4 → 4 * j + q < c → S 10 0 (1 + 5 * j + q) = lsG S q (S 10 0 (5 * j)) (S 0 0 4).toNat) → am_W m_X1_check (am_ev am_prog (d + 12)) K 2 [some (.inr (.inl (x))), some (.inl (c))] [] h := by
    refine lp_z ?_ ?_
    · intro c g1 g2 hL hc
      obtain ⟨w1, w2⟩ := x10.2.2.2.2 (c / 4) (c % 4) (by omega) (by omega) (by omega) (by omega)
      have e : 4 * (c / 4) + c % 4 = c := by omega
      rw [e] at w1 w2
      refine v_X1_check_2 ?_
      rw [hN, x1.2.2.2.2.2.1, x10.2.2.1, x10.2.2.2.1, w1, w2]
      refine ⟨⟨hx, x1.1.1, by omega⟩, fun d => absurd d (by omega), fun _ => ⟨⟨Or.inl x10.1.1, by omega, Or.inl x10.2.1.1, by omega⟩, fun d => ⟨by omega, hL (fun j q j1 q1 q2 q3 => ?_)⟩, fun d => XA_id t (H c (Or.inr ⟨c / 4, c % 4, by omega, by omega, by omega, d, hc⟩))⟩⟩
      by_cases f : 4 * j + q = c
      · have f1 : j = c / 4 := by omega
        have f2 : q = c % 4 := by omega
        rw [f1, f2]
        exact d
      · exact hc j q j1 q1 q2 (by omega)
    · intro hc
      refine v_X1_check_2 ?_
      rw [hN, x1.2.2.2.2.2.1]
      refine ⟨⟨hx, x1.1.1, by omega⟩, fun d => XA_id t (H (-1) (Or.inl ⟨rfl, fun i k i1 i2 k1 k2 => hc i k i1 k1 k2 (by omega)⟩)), fun d => absurd d (by omega)⟩
  exact main 0 (by omega) (by omega) (fun j q j1 q1 q2 q3 => absurd q3 (by omega))
/-- a machine is broken, or is not -/
theorem X_broken {L : am_Lb} {x P N : Nat} {S : am_G} {B : Int} {k v : Int} {D : Nat} (hD : 14 ≤ D) (t : Nt h L x P N S B) (hx : am_ty h x = 1) (hN : am_fr h 1 x = N) (hC : okC S) (hv : v = 0 ∨ v = 1) (H0 : ¬ (0 ≤ k ∧ k < S 0 0 3) → XT h L x P N S B K 33) (H1 : 0 ≤ k ∧ k < S 0 0 3 → XA h L x P N (u3 S 5 k 28 v) B K (am_b (S 5 k 28 ≠ v)) 0 0) : am_ev am_prog D 146 [.inr (.inl x), .inl k, .inl v] h K := by
  obtain ⟨x1, x2, x3, x4, x5, x6, x7, x8, x9, x10⟩ := t.2.2.2.1
  have c3 := hC.2.2.1
  obtain ⟨d, rfl⟩ : ∃ d, D = d + 13 := ⟨D - 13, by omega⟩
  refine am_en p_X1_broken rfl rfl ?_
  refine v_X1_broken_0 ?_
  rw [hN, x1.2.2.2.2.1, x5.2.1]
  refine ⟨hx, ⟨x1.1.1, by omega⟩, fun c => ⟨⟨x5.1.1, by omega⟩, ?_⟩, fun c => XT_go t (H0 (by omega))⟩
  have m := x5.2.2 k (by omega) (by omega)
  have a : fx (fun q => q = am_ar h (am_fr h 23 N) k) h (am_sfi h 146 (am_ar h (am_fr h 23 N) k) v) := fx_sfi fx_refl (Or.inr rfl)
  have go : Nt (am_sfi h 146 (am_ar h (am_fr h 23 N) k) v) L x P N (u3 S 5 k 28 v) B := by
    refine Nt_mn t (k := k) (by omega) rfl a (fun f => rfl) (fun c c1 => u3_r c1) (fun q e => u3_rp e) (fun o ho => u3_no (by omega)) ?_ ?_ ?_ ?_ ?_
    · exact x_fif (by decide)
    · rw [u3_eq]
      exact x_fie
    · rw [u3_no (by decide), x_fif (by decide)]
      exact m.2.2.2.2.2.2.1
    · rw [u3_no (by decide), x_fif (by decide)]
      exact m.2.2.2.2.2.2.2.1
    · rw [u3_no (by decide), x_fif (by decide)]
      exact m.2.2.2.2.2.2.2.2.1
  have e := H1 (by omega) _ _ go (Out_G t.1 a (nd_one m.1) (Nat.le_refl _) (Nat.le_refl _))
  rw [m.2.2.2.2.2.1]
  refine ⟨m.1.1, fun d => ⟨hv, ?_⟩, fun d => ⟨hv, ?_⟩⟩
  · rw [am_bf (by omega)] at e
    exact e
  · rw [am_bt d] at e
    exact e
/-- a width -/
theorem X_width {L : am_Lb} {x P N : Nat} {S : am_G} {B : Int} {f c n : Int} {D : Nat} (hD : 14 ≤ D) (t : Nt h L x P N S B) (hx : am_ty h x = 1) (hN : am_fr h 1 x = N) (hC : okC S) (H0 : ¬ ((0 ≤ f ∧ f < 2) ∧ (0 ≤ c ∧ c < 27)) → XT h L x P N S B K 33) (H2 : (0 ≤ f ∧ f < 2) ∧ (0 ≤ c ∧ c < 27) → ¬ (1 ≤ n ∧ n ≤ 20) → XT h L x P N S B K 35) (H1 : (0 ≤ f ∧ f < 2) ∧ (0 ≤ c ∧ c < 27) → 1 ≤ n ∧ n ≤ 20 → XN h L x P N (u3 S 1 f c n) B K 0 0) : am_ev am_prog D 155 [.inr (.inl x), .inl f, .inl c, .inl n] h K := by
  obtain ⟨x1, x2, x3, x4, x5, x6, x7, x8, x9, x10⟩ := t.2.2.2.1
  obtain ⟨d, rfl⟩ : ∃ d, D = d + 13 := ⟨D - 13, by omega⟩
  refine am_en p_X1_width rfl rfl ?_
  refine v_X1_width_0 ?_
  rw [hN, x2.2.1]
  refine ⟨fun c => XT_go t (H0 (by omega)), fun c1 => ⟨fun d => XT_go t (H0 (by omega)), fun d => ⟨fun e => ?_, fun e => XT_go t (H2 (by omega) (by omega))⟩⟩⟩
  obtain ⟨w1, w2⟩ := x2.2.2 f (by omega) (by omega)
  refine ⟨⟨hx, x1.1.1, x2.1.1, by omega, w1.1, by rw [w2.2.1]; omega⟩, ?_⟩
  have a : fx (fun q => q = am_ar h (am_fr h 19 N) f) h (am_sai h (am_ar h (am_fr h 19 N) f) c n) := fx_sai fx_refl (Or.inr rfl)
  refine H1 (by omega) e _ L (Nt_1 t (Int.le_refl _) a leL_refl (okLb_fx a t.1) (nd_one w1) (fun c c1 _ => u3_r c1) (fun j => u3_nc (by decide)) ?_) (Out_G t.1 a (nd_one w1) (Nat.le_refl _) (Nat.le_refl _))
  obtain ⟨r1, r2, r3⟩ := x2
  have nr : am_fr h 19 N ≠ am_ar h (am_fr h 19 N) f := fun e => by
    have e2 := w1.1
    rw [← e, r1.1] at e2
    exact absurd e2 (by decide)
  have y := nd_fx a leL_refl r1 nr
  refine ⟨y.1, y.2.1.trans r2, fun q q1 q2 => ?_⟩
  rw [y.2.2.2.2.2]
  obtain ⟨v1, v2⟩ := r3 q q1 q2
  by_cases e2 : q = f
  · rw [e2]
    refine ⟨⟨w1.1, w1.2.1, w1.2.2⟩, w2.1, w2.2.1, fun i i1 i2 => ?_, w2.2.2.2⟩
    rw [x_aise]
    by_cases e3 : i = c
    · rw [e3, am_uz_eq, u3_eq]
    · rw [am_uz_ne e3, u3_no e3]
      exact w2.2.2.1 i i1 i2
  · have ne : am_ar h (am_fr h 19 N) q ≠ am_ar h (am_fr h 19 N) f := fun e => by
      have e3 := v1.2.2.2
      rw [e, w1.2.2.2] at e3
      injection e3 with _ e3
      injection e3 with _ e3
      injection e3 with _ e3
      exact e2 e3.symm
    rw [u3_rp e2]
    exact ⟨(nd_fx a leL_refl v1 ne).1, xW_fx a ne v2⟩
end
