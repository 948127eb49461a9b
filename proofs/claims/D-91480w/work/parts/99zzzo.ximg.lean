set_option maxRecDepth 100000
/-! the component: image, back, ahead -/
/-- no machine has a job; none that works has one -/
def idl (S : am_G) : Prop := ∀ k, 0 ≤ k → k < S 0 0 3 → S 5 k 29 = 0
def stk (S : am_G) : Prop := ∀ k, 0 ≤ k → k < S 0 0 3 → S 5 k 28 ≠ 0 ∨ S 5 k 29 = 0
/-- minutes as the component takes them -/
def mnX (S : am_G) : Nat → am_G → Prop
  | 0, S' => S' = S
  | n + 1, S' => ∃ S1, mnX S n S1 ∧ (S1 0 0 0 < 600 ∧ ¬ idl S1 ∧ ¬ stk S1) ∧ mnR (mnS S1) (S1 0 0 3).toNat S'
theorem Nt_mk2 {h : am_H} {L : am_Lb} {x P Z : Nat} {S : am_G} {B : Int} (ok : okLb h L) (cs : (am_ty h (am_cs h 0) = 134 ∧ am_cs h 0 ≤ am_sz h ∧ am_ln h (am_cs h 0) = 0)) (pp : rPap h L x P) (r : Rep h L Z P S B) (ne : x ≠ Z ∧ x ≠ 0 ∧ Z ≠ 0) : Nt h L x P Z S B := ⟨ok, cs, pp, r, ne⟩
/-- labels of a night that is no more -/
def unl (L : am_Lb) (Z : Nat) : am_Lb := fun q => if (L q).1 = Z then (0, 0, 0, 0) else L q
theorem unl_ne {L : am_Lb} {Z q : Nat} (h : (L q).1 ≠ Z) : unl L Z q = L q := if_neg h
theorem unl_o {L : am_Lb} {Z q : Nat} : (unl L Z q).1 = 0 ∨ (unl L Z q = L q ∧ (L q).1 ≠ Z) := by
  by_cases c : (L q).1 = Z
  · left
    unfold unl
    rw [if_pos c]
  · exact Or.inr ⟨unl_ne c, c⟩
theorem okLb_un {h : am_H} {L : am_Lb} {Z : Nat} (ok : okLb h L) : okLb h (unl L Z) := by
  refine ⟨ok.1, fun q hq t => ?_, fun q hq => ?_⟩
  · rcases unl_o (L := L) (Z := Z) (q := q) with e | e
    · exact e
    · rw [e.1]
      exact ok.2.1 q hq t
  · rcases unl_o (L := L) (Z := Z) (q := q) with e | e
    · exact e
    · rw [e.1]
      exact ok.2.2 q hq
theorem nd_un {h : am_H} {L : am_Lb} {Z q t o g k : Nat} {i : Int} (n : nd h L q t o g k i) (ne : o ≠ Z) : nd h (unl L Z) q t o g k i := ⟨n.1, n.2.1, n.2.2.1, (unl_ne (by rw [n.2.2.2]; exact ne)).trans n.2.2.2⟩
theorem rPap_un {h : am_H} {L : am_Lb} {x P Z : Nat} (y : rPap h L x P) (ne : x ≠ Z) : rPap h (unl L Z) x P := by
  obtain ⟨y1, y2, y3, y4, y5, y6, y7⟩ := y
  exact ⟨nd_un y1 ne, ⟨nd_un y2.1 ne, y2.2⟩, ⟨nd_un y3.1 ne, y3.2⟩, ⟨nd_un y4.1 ne, y4.2⟩, nd_un y5 ne, nd_un y6 ne, y7⟩
/-- one mark of a machine is set -/
theorem Rep_28 {h : am_H} {L : am_Lb} {x P N : Nat} {S : am_G} {B k v : Int} (t : Nt h L x P N S B) (hk : 0 ≤ k ∧ k < S 0 0 3) : Nt (am_sfi h 146 (am_ar h (am_fr h 23 N) k) v) L x P N (u3 S 5 k 28 v) B := by
  have x5 := t.2.2.2.1.2.2.2.2.1
  have m := x5.2.2 k hk.1 hk.2
  have a : fx (fun q => q = am_ar h (am_fr h 23 N) k) h (am_sfi h 146 (am_ar h (am_fr h 23 N) k) v) := fx_sfi fx_refl (Or.inr rfl)
  refine Nt_mn t (k := k) hk rfl a (fun f => rfl) (fun c c1 => u3_r c1) (fun q e => u3_rp e) (fun o ho => u3_no (by omega)) ?_ ?_ ?_ ?_ ?_
  · exact x_fif (by decide)
  · rw [u3_eq]
    exact x_fie
  · rw [u3_no (by decide), x_fif (by decide)]
    exact m.2.2.2.2.2.2.1
  · rw [u3_no (by decide), x_fif (by decide)]
    exact m.2.2.2.2.2.2.2.1
  · rw [u3_no (by decide), x_fif (by decide)]
    exact m.2.2.2.2.2.2.2.2.1
theorem capG_b {h : am_H} {L : am_Lb} {N P : Nat} {S : am_G} {B : Int} (r : Rep h L N P S B) : 0 ≤ capG h N ∧ capG h N ≤ 1000 := by
  have q := r.2.2.2.2.2.1.1.1
  unfold capG
  have a := q.1.2.2.1
  have b := q.2.1
  omega
section
variable {K : am_K} {h : am_H}
theorem x_idle {L : am_Lb} {N P : Nat} {S : am_G} {B : Int} {D : Nat} (hD : 14 ≤ D) (rep : Rep h L N P S B) (c3 : 0 ≤ S 0 0 3 ∧ S 0 0 3 ≤ 4) (H : ∀ v, (v ≠ 0 ↔ idl S) → K (.inl (some (.inl (v)))) h) : am_ev am_prog D 228 [.inr (.inl N)] h K := by
  have x1 := rep.1
  have x5 := rep.2.2.2.2.1
  obtain ⟨d, rfl⟩ : ∃ d, D = d + 13 := ⟨D - 13, by omega⟩
  refine am_en p_X3_idle rfl rfl ?_
  refine v_X3_idle_0 ?_
  have loop : ∀ k, 0 ≤ k → k ≤ S 0 0 3 → ∀ v, (v = 0 ∨ v = 1) → (v ≠ 0 ↔ ∀ j, 0 ≤ j → j < k → S 5 j 29 = 0) → am_W m_X3_idle (am_ev am_prog (d + 12)) K 4 [some (.inr (.inl (N))), some (.inl (v)), some (.inl (k))] [] h := by
    refine lp_z ?_ ?_
    · intro k k0 k1 hL v v01 hv
      have mk := x5.2.2 k k0 k1
      have m10 := mk.2.2.2.2.2.2.2.2.2.1
      refine v_X3_idle_4 ?_
      rw [x1.2.2.2.2.1, x5.2.1, m10.2.2.2.2.1]
      refine ⟨x1.1.1, fun z => absurd z (by omega), fun _ => ⟨fun e => ⟨by omega, hL 0 (Or.inl rfl) ⟨fun z => absurd rfl z, fun z => ?_⟩⟩, fun e => ⟨⟨x5.1.1, by omega, mk.1.1⟩, m10.1.1.1, fun e2 => ⟨by omega, hL 0 (Or.inl rfl) ⟨fun z => absurd rfl z, fun z => absurd (z k k0 (by omega)) e2⟩⟩, fun e2 => ⟨by omega, hL 1 (Or.inr rfl) ⟨fun _ j j0 j1 => ?_, fun _ => by decide⟩⟩⟩⟩⟩
      · exact absurd e (hv.2 (fun j j0 j1 => z j j0 (by omega)))
      · by_cases c : j = k
        · rw [c]
          exact e2
        · exact hv.1 e j j0 (by omega)
    · intro v v01 hv
      refine v_X3_idle_4 ?_
      rw [x1.2.2.2.2.1]
      exact ⟨x1.1.1, fun _ => ⟨v01, H v hv⟩, fun z => absurd z (by omega)⟩
  exact loop 0 (by omega) c3.1 1 (Or.inr rfl) ⟨fun _ j j0 j1 => absurd j1 (by omega), fun _ => by decide⟩
theorem x_stuck {L : am_Lb} {N P : Nat} {S : am_G} {B : Int} {D : Nat} (hD : 14 ≤ D) (rep : Rep h L N P S B) (c3 : 0 ≤ S 0 0 3 ∧ S 0 0 3 ≤ 4) (H : ∀ v, (v ≠ 0 ↔ stk S) → K (.inl (some (.inl (v)))) h) : am_ev am_prog D 229 [.inr (.inl N)] h K := by
  have x1 := rep.1
  have x5 := rep.2.2.2.2.1
  obtain ⟨d, rfl⟩ : ∃ d, D = d + 13 := ⟨D - 13, by omega⟩
  refine am_en p_X3_stuck rfl rfl ?_
  refine v_X3_stuck_0 ?_
  have loop : ∀ k, 0 ≤ k → k ≤ S 0 0 3 → ∀ v, (v = 0 ∨ v = 1) → (v ≠ 0 ↔ ∀ j, 0 ≤ j → j < k → S 5 j 28 ≠ 0 ∨ S 5 j 29 = 0) → am_W m_X3_stuck (am_ev am_prog (d + 12)) K 4 [some (.inr (.inl (N))), some (.inl (v)), some (.inl (k))] [] h := by
    refine lp_z ?_ ?_
    · intro k k0 k1 hL v v01 hv
      have mk := x5.2.2 k k0 k1
      have m10 := mk.2.2.2.2.2.2.2.2.2.1
      have m28 := mk.2.2.2.2.2.1
      have yes : v ≠ 0 → (S 5 k 28 ≠ 0 ∨ S 5 k 29 = 0) → ∀ j, 0 ≤ j → j < k + 1 → S 5 j 28 ≠ 0 ∨ S 5 j 29 = 0 := fun e y j j0 j1 => by
        by_cases c : j = k
        · rw [c]
          exact y
        · exact hv.1 e j j0 (by omega)
      refine v_X3_stuck_4 ?_
      rw [x1.2.2.2.2.1, x5.2.1, m10.2.2.2.2.1, m28]
      refine ⟨x1.1.1, fun z => absurd z (by omega), fun _ => ⟨fun e => ⟨by omega, hL 0 (Or.inl rfl) ⟨fun z => absurd rfl z, fun z => absurd e (hv.2 (fun j j0 j1 => z j j0 (by omega)))⟩⟩, fun e => ⟨⟨x5.1.1, by omega, mk.1.1⟩, fun b => ⟨by omega, hL 1 (Or.inr rfl) ⟨fun _ => yes e (Or.inl b), fun _ => by decide⟩⟩, fun b => ⟨m10.1.1.1, fun e2 => ⟨by omega, hL 0 (Or.inl rfl) ⟨fun z => absurd rfl z, fun z => ?_⟩⟩, fun e2 => ⟨by omega, hL 1 (Or.inr rfl) ⟨fun _ => yes e (Or.inr e2), fun _ => by decide⟩⟩⟩⟩⟩⟩
      rcases z k k0 (by omega) with y | y
      · exact absurd b y
      · exact absurd y e2
    · intro v v01 hv
      refine v_X3_stuck_4 ?_
      rw [x1.2.2.2.2.1]
      exact ⟨x1.1.1, fun _ => ⟨v01, H v hv⟩, fun z => absurd z (by omega)⟩
  exact loop 0 (by omega) c3.1 1 (Or.inr rfl) ⟨fun _ j j0 j1 => absurd j1 (by omega), fun _ => by decide⟩
/-- the image is taken -/
theorem X_image {L : am_Lb} {x P N : Nat} {S : am_G} {B : Int} {D : Nat} (hD : 90 ≤ D) (t : Nt h L x P N S B) (hx : am_ty h x = 1) (hN : am_fr h 1 x = N) (hz : x ≤ am_sz h) (hl : L x = (x, 0, 0, 0)) (ow : ∀ q, (L q).1 ≤ am_sz h) (hC : okC S) (hF : okF S) (hA : okA S) (hG : okG S) (hM : okM S) (hY : okY S) (H : ∀ h' L', Nt h' L' x P N S B → Rep h' L' (am_sz h + 1) P S 400 → am_fr h' 2 x = (am_sz h + 1) → (∀ f, f ≠ 2 → am_fr h' f x = am_fr h f x) → (∀ f, am_fi h' f x = am_fi h f x) → fx (fun q => q = x) h h' → leL h L L' → okLb h' L' → (∀ q, am_sz h < q → (L' q).1 = 0 ∨ (L' q).1 = (am_sz h + 1)) → am_sz h < am_sz h' → am_sz h' ≤ am_sz h + 1900 → am_us h' ≤ am_us h + 17300 → K (.inl none) h') : am_ev am_prog D 4 [.inr (.inl x)] h K := by
  have xN := t.2.2.2.2
  obtain ⟨d, rfl⟩ : ∃ d, D = d + 13 := ⟨D - 13, by omega⟩
  refine am_en p_X1_image rfl rfl ?_
  refine v_X1_image_0 ⟨hx, ?_⟩
  rw [hN]
  refine ⟨t.2.2.2.1.1.1.1, x_copy (by omega) t.1 t.2.1 t.2.2.2.1 ow hC hF hA hG hM hY.1 (fun h1 L1 f1 le1 ok1 r1 ln1 z1 u1 => am_av (v_X1_image_4 ?_))⟩
  have kx := f1.2.2.2 x hz
  have kx' := kx.2.2 (fun z => z)
  refine ⟨kx.1.trans hx, ?_⟩
  have gb := capG_b r1
  have g4 := hG.1
  have Zz := r1.1.1.2.1
  have lZ := r1.1.1.2.2.2
  have lx1 : L1 x = (x, 0, 0, 0) := (le1 x hz).trans hl
  have t1 := Nt_fxL f1 le1 ok1 t
  have f2 : fx (fun q => q = x) h1 (am_sfr h1 2 x (am_sz h + 1)) := fx_sfr fx_refl (Or.inr rfl)
  have hX : ∀ q, q ≤ am_sz h1 → q = x → (L1 q).1 = x ∧ (L1 q).2.1 ≠ 1 := fun q _ e => by
    rw [e, lx1]
    exact ⟨rfl, by show (0 : Nat) ≠ 1; decide⟩
  have t2 := Nt_x t1 f2 hX
  have r2 := Rep_fx (Int.le_refl 400) f2 (leL_refl (L := L1)) ok1 t1.2.1.1 (fun q hq e => by rw [(hX q hq e).1]; exact ⟨xN.2.1, by omega⟩) r1
  exact H _ L1 t2 r2 x_fre (fun f hf => (x_frf hf).trans (kx'.2.1 f)) (fun f => kx'.1 f) (fx_trans2 (fx_sub f1 (fun _ _ z => z.elim)) f2 (fun _ _ e => e)) le1 (okLb_fx f2 ok1) ln1 (show am_sz h < am_sz h1 by omega) (show am_sz h1 ≤ am_sz h + 1900 by omega) (show am_us h1 ≤ am_us h + 17300 by omega)
/-- back to the image -/
theorem X_back {L : am_Lb} {x P N : Nat} {S : am_G} {B : Int} {I : Nat} {SI : am_G} {BI : Int} {D : Nat} (hD : 90 ≤ D) (t : Nt h L x P N S B) (hx : am_ty h x = 1) (hI : am_fr h 2 x = I) (hz : x ≤ am_sz h) (hl : L x = (x, 0, 0, 0)) (ow : ∀ q, (L q).1 ≤ am_sz h) (rI : I ≠ 0 → Rep h L I P SI BI ∧ x ≠ I ∧ okC SI ∧ okF SI ∧ okA SI ∧ okG SI ∧ okM SI ∧ okY SI) (H0 : I = 0 → K (.inl (some (.inl (0)))) h) (H : I ≠ 0 → ∀ h' L', Nt h' L' x P (am_sz h + 1) SI 400 → Rep h' L' I P SI BI → am_fr h' 1 x = (am_sz h + 1) → (∀ f, f ≠ 1 → am_fr h' f x = am_fr h f x) → (∀ f, am_fi h' f x = am_fi h f x) → fx (fun q => q = x) h h' → leL h L L' → okLb h' L' → (∀ q, am_sz h < q → (L' q).1 = 0 ∨ (L' q).1 = (am_sz h + 1)) → am_sz h < am_sz h' → am_sz h' ≤ am_sz h + 1900 → am_us h' ≤ am_us h + 17300 → K (.inl (some (.inl (1)))) h') : am_ev am_prog D 5 [.inr (.inl x)] h K := by
  have xN := t.2.2.2.2
  obtain ⟨d, rfl⟩ : ∃ d, D = d + 13 := ⟨D - 13, by omega⟩
  refine am_en p_X1_back rfl rfl ?_
  refine v_X1_back_0 ?_
  rw [hI]
  refine ⟨hx, fun c => ?_, fun c => H0 c⟩
  obtain ⟨ri, xI, oC, oF, oA, oG, oM, oY⟩ := rI c
  refine ⟨ri.1.1.1, x_copy (by omega) t.1 t.2.1 ri ow oC oF oA oG oM oY.1 (fun h1 L1 f1 le1 ok1 r1 ln1 z1 u1 => am_av (v_X1_back_9 ?_))⟩
  have kx := f1.2.2.2 x hz
  have kx' := kx.2.2 (fun z => z)
  refine ⟨kx.1.trans hx, ?_⟩
  have gb := capG_b r1
  have g4 := oG.1
  have Zz := r1.1.1.2.1
  have lx1 : L1 x = (x, 0, 0, 0) := (le1 x hz).trans hl
  have t1 := Nt_fxL f1 le1 ok1 t
  have f2 : fx (fun q => q = x) h1 (am_sfr h1 1 x (am_sz h + 1)) := fx_sfr fx_refl (Or.inr rfl)
  have hX : ∀ q, q ≤ am_sz h1 → q = x → (L1 q).1 = x ∧ (L1 q).2.1 ≠ 1 := fun q _ e => by
    rw [e, lx1]
    exact ⟨rfl, by show (0 : Nat) ≠ 1; decide⟩
  have t1' : Nt h1 L1 x P (am_sz h + 1) SI 400 := ⟨ok1, t1.2.1, t1.2.2.1, r1, by omega, xN.2.1, by omega⟩
  have t2 := Nt_x t1' f2 hX
  have ri1 := Rep_fx (Int.le_refl BI) f1 le1 t.1 t.2.1.1 (fun _ _ z => z.elim) ri
  have ri2 := Rep_fx (Int.le_refl BI) f2 (leL_refl (L := L1)) ok1 t1.2.1.1 (fun q hq e => by rw [(hX q hq e).1]; exact ⟨xN.2.1, xI⟩) ri1
  exact H c _ L1 t2 ri2 x_fre (fun f hf => (x_frf hf).trans (kx'.2.1 f)) (fun f => kx'.1 f) (fx_trans2 (fx_sub f1 (fun _ _ z => z.elim)) f2 (fun _ _ e => e)) le1 (okLb_fx f2 ok1) ln1 (show am_sz h < am_sz h1 by omega) (show am_sz h1 ≤ am_sz h + 1900 by omega) (show am_us h1 ≤ am_us h + 17300 by omega)
end
