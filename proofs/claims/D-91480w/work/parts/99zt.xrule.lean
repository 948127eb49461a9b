set_option maxRecDepth 100000
/-! the component reads a rule -/
theorem xCd_fg {X : Nat → Prop} {h h' : am_H} (f : fx X h h') (g : ∀ q, X q → am_ty h q < 12 ∨ 18 < am_ty h q) : ∀ (n c : Nat) (val : (Int → Int) → (Int → Int) → Int), xCd h n c val → xCd h' n c val
  | 0, _, _, x => x.elim
  | n + 1, c, val, x => by
    obtain ⟨a1, a2, a3⟩ := f.2.2.2 c x.1
    have go : (12 ≤ am_ty h c ∧ am_ty h c ≤ 18) → (∀ f, am_fi h' f c = am_fi h f c) ∧ (∀ f, am_fr h' f c = am_fr h f c) := fun ne => by
      have k := a3 (fun z => by have := g c z; omega)
      exact ⟨k.1, k.2.1⟩
    refine ⟨Nat.le_trans x.1 f.1, ?_⟩
    rw [a1]
    rcases x.2 with ⟨ty, v1, x1, e⟩ | y | y | y | ⟨ty, b1, e⟩ | ⟨ty, v1, v2, x1, x2, e⟩ | ⟨ty, v1, v2, x1, x2, e⟩
    · have k := go (by omega)
      rw [k.2 125]
      exact Or.inl ⟨ty, v1, xCd_fg f g n _ _ x1, e⟩
    · exact Or.inr (Or.inl y)
    · exact Or.inr (Or.inr (Or.inl y))
    · exact Or.inr (Or.inr (Or.inr (Or.inl y)))
    · have k := go (by omega)
      rw [k.1, k.1, k.1]
      exact Or.inr (Or.inr (Or.inr (Or.inr (Or.inl ⟨ty, b1, e⟩))))
    · have k := go (by omega)
      rw [k.2 129, k.2 130]
      exact Or.inr (Or.inr (Or.inr (Or.inr (Or.inr (Or.inl ⟨ty, v1, v2, xCd_fg f g n _ _ x1, xCd_fg f g n _ _ x2, e⟩)))))
    · have k := go (by omega)
      rw [k.2 131, k.2 132]
      exact Or.inr (Or.inr (Or.inr (Or.inr (Or.inr (Or.inr ⟨ty, v1, v2, xCd_fg f g n _ _ x1, xCd_fg f g n _ _ x2, e⟩)))))
/-- a condition that may be -/
def oCd (h : am_H) (c : Nat) (oc : Option am_Cd) : Prop := match oc with
  | none => c = 0
  | some d => c ≠ 0 ∧ xCd h d.dp c d.ev
/-- a rule's cell -/
def iRu (h : am_H) (z : Nat) (ru : am_Ru) : Prop := am_ty h z = 11 ∧ (z ≤ am_sz h ∧ z ≠ 0) ∧ (am_fi h 121 z = ru.1 ∧ am_fi h 122 z = ru.2.1 ∧ am_fi h 123 z = ru.2.2.1) ∧ oCd h (am_fr h 124 z) ru.2.2.2
theorem oCd_fg {X : Nat → Prop} {h h' : am_H} (f : fx X h h') (g : ∀ q, X q → am_ty h q < 12 ∨ 18 < am_ty h q) {c : Nat} {oc : Option am_Cd} (o : oCd h c oc) : oCd h' c oc := by
  cases oc with
  | none => exact o
  | some d => exact ⟨o.1, xCd_fg f g _ _ _ o.2⟩
theorem iRu_fg {X : Nat → Prop} {h h' : am_H} (f : fx X h h') (g : ∀ q, X q → am_ty h q < 11 ∨ 18 < am_ty h q) {z : Nat} {ru : am_Ru} (o : iRu h z ru) : iRu h' z ru := by
  obtain ⟨o1, o2, o3, o4⟩ := o
  obtain ⟨a1, a2, a3⟩ := f.2.2.2 z o2.1
  have k := a3 (fun y => by have := g z y; omega)
  unfold iRu
  rw [a1, k.1, k.1, k.1, k.2.1]
  exact ⟨o1, ⟨Nat.le_trans o2.1 f.1, o2.2⟩, o3, oCd_fg f (fun q y => by have := g q y; omega) o4⟩
theorem nmT_l {t : Int → Int} {n a lo hi x : Int} {K : Int × Int → Int ⊕ (Int × am_Ru)} (h : nmR t n a lo hi = .inl x) : nmT t n a lo hi K = .inl x := by
  unfold nmT
  rw [h]
theorem nmT_r {t : Int → Int} {n a lo hi : Int} {q : Int × Int} {K : Int × Int → Int ⊕ (Int × am_Ru)} (h : nmR t n a lo hi = .inr q) : nmT t n a lo hi K = K q := by
  unfold nmT
  rw [h]
theorem ifT_l {t : Int → Int} {n a k f x : Int} {m : Bool} (h : ifR t n m a = .inl x) : ifT t n m a k f = .inl x := by
  unfold ifT
  rw [h]
theorem ifT_r {t : Int → Int} {n a k f : Int} {m : Bool} {q : Int × Option am_Cd} (h : ifR t n m a = .inr q) : ifT t n m a k f = .inr (q.1, k, f, 0, q.2) := by
  unfold ifT
  rw [h]
section
variable {K : am_K} {h0 h : am_H} {R T : Nat} {t : Int → Int} {n a st dp : Int}
theorem xy_needs {v : List Int} {j : Nat} {D : Nat} (hD : 32 ≤ D) (x : TxT h0 T t n) (s : RyS h0 h R T a st dp) (ha : 0 ≤ a ∧ a ≤ n) (c : csX h0 j v) (H0 : (wAt t n (bE t n a)) ≠ v → ThP h0 h K (bE t n a) n a) (H1 : ∀ h', (wAt t n (bE t n a)) = v → fx (fun q => q = R) h h' → RyS h0 h' R T ((bE t n a) + v.length) (bE t n a) dp → 3 * ((am_sz h' : Int) - am_sz h) ≤ 12 + v.length → (am_us h' : Int) ≤ am_us h + 24 + 5 * v.length → K (.inl none) h') : am_ev am_prog D 354 [.inr (.inl R), .inr (.inl (am_cs h0 j))] h K := by
  have bv := bE_v (t := t) (n := n) (a := a)
  have be := bv.1.2 ha.2
  have lv := lE_v (t := t) (n := n) (a := (bE t n a))
  have le := lv.1.2 be
  obtain ⟨d, rfl⟩ : ∃ d, D = d + 13 := ⟨D - 13, by omega⟩
  refine am_en p_X11_needs rfl rfl ?_
  refine v_X11_needs_0 ⟨s.2.2.1, xy_word (by omega) x s ha (fun h2 w f2 s2 xs ty wz cz cu => am_av (v_X11_needs_2 ⟨Or.inl ty, ?_⟩))⟩
  have ecs : am_cs h0 j = am_cs h2 j := by rw [s2.1.2.2.1]
  rw [ecs]
  refine xy_eq (by omega) xs (csX_fx s2.1 c) (fun e => am_av (v_X11_needs_4 ⟨fun _ => ?_, fun z => absurd z (by decide)⟩)) (fun e => am_av (v_X11_needs_4 ⟨fun z => absurd rfl z, fun _ => ⟨s2.2.2.1, ?_⟩⟩))
  · have wl := wAt_l e
    have el : (lE t n (bE t n a) - bE t n a) = v.length := by omega
    rw [el] at cz cu
    rw [wl] at s2
    exact H1 h2 e f2 s2 cz cu
  · exact xy_wrong (by omega) s2 (fun h4 E g1 g2 g3 g4 g5 g6 => am_av (v_X11_needs_7 ⟨g3, H0 e h4 E g1 g2 g3 g4 (by omega) (by omega)⟩))
theorem xy_when {D : Nat} (hD : 70 ≤ D) (x : TxT h0 T t n) (t00 : am_ty h0 0 = 0) (cs : CsX h0) (ci : csX h0 16 wIf) (s : RyS h0 h R T a st dp) (ha : 0 ≤ a ∧ a ≤ n) (H0 : ∀ p, ifR t n false a = .inl p → ThP h0 h K p n a) (H1 : ∀ q, ifR t n false a = .inr q → ∀ h' c st', fx (fun q => q = R) h h' → RyS h0 h' R T q.1 st' 0 → oCd h' c q.2 → 3 * ((am_sz h' : Int) - am_sz h) ≤ 12 * (q.1 - a) + 12 + 2 * (lE t n (bE t n (q.1)) - bE t n (q.1)) → (am_us h' : Int) ≤ am_us h + 30 * (q.1 - a) + 24 + 10 * (lE t n (bE t n (q.1)) - bE t n (q.1)) → K (.inl (some (.inr (.inl (c))))) h') : am_ev am_prog D 352 [.inr (.inl R)] h K := by
  have bv := bE_v (t := t) (n := n) (a := a)
  have be := bv.1.2 ha.2
  have lv := lE_v (t := t) (n := n) (a := (bE t n a))
  have le := lv.1.2 be
  have ecs : am_cs h 16 = am_cs h0 16 := by rw [s.1.2.2.1]
  obtain ⟨d, rfl⟩ : ∃ d, D = d + 13 := ⟨D - 13, by omega⟩
  refine am_en p_X11_when rfl rfl ?_
  refine v_X11_when_0 ⟨s.2.2.1, ?_⟩
  rw [ecs]
  have s1 := RyS_dp (v := 0) s
  have z1 : am_sz (am_sfi h 119 R 0) = am_sz h := rfl
  have u1 : am_us (am_sfi h 119 R 0) = am_us h := rfl
  have f1 : fx (fun q => q = R) h (am_sfi h 119 R 0) := fx_sfi fx_refl (Or.inr rfl)
  refine xy_passes (by omega) x s1 ha ci (fun h2 e f2 s2 cz cu => am_av (v_X11_when_6 ⟨fun _ => ?_, fun z => absurd rfl z⟩)) (fun h2 e f2 s2 cz cu => am_av (v_X11_when_6 ⟨fun z => absurd z (by decide), fun _ => ⟨s2.2.2.1, ?_⟩⟩))
  · have er : ifR t n false a = .inr ((bE t n a), none) := by
      unfold ifR
      rw [if_neg e]
      rfl
    have bb : bE t n (bE t n a) = (bE t n a) := bE_b
    refine H1 _ er h2 0 _ (fx_trans f1 f2) s2 rfl ?_ ?_
    · show _ ≤ 12 * ((bE t n a) - a) + 12 + 2 * (lE t n (bE t n ((bE t n a))) - bE t n ((bE t n a)))
      rw [bb]
      omega
    · show _ ≤ _ + 30 * ((bE t n a) - a) + 24 + 10 * (lE t n (bE t n ((bE t n a))) - bE t n ((bE t n a)))
      rw [bb]
      omega
  · have we : (bE t n a) + 2 ≤ n := wAt_e e be
    have cz' : 3 * ((am_sz h2 : Int) - am_sz (am_sfi h 119 R 0)) ≤ 12 + 2 := cz
    have cu' : (am_us h2 : Int) ≤ am_us (am_sfi h 119 R 0) + 24 + 5 * 2 := cu
    refine rx_cnd x t00 cs _ h2 ((bE t n a) + 2) _ _ (by omega) s2 (by omega) (fun p hp h4 E g1 g2 g3 g4 g5 g6 => am_ax rfl (H0 p ?_ h4 E g1 g2 g3 g4 (by omega) (by omega))) (fun q hq h4 c st' f4 s4 xc cz4 k1 k2 => am_av (v_X11_when_9 ?_))
    · unfold ifR
      rw [if_pos e, hp]
    · have er : ifR t n false a = .inr (q.1, some q.2) := by
        unfold ifR
        rw [if_pos e, hq]
      have bb : bE t n q.1 = q.1 := anR_b _ _ hq
      have oq := (cnR_ok _ q we hq).1
      refine H1 _ er h4 c _ (fx_trans (fx_trans f1 f2) f4) s4 ⟨by omega, xc⟩ ?_ ?_
      · show _ ≤ 12 * (q.1 - a) + 12 + 2 * (lE t n (bE t n (q.1)) - bE t n (q.1))
        rw [bb]
        omega
      · show _ ≤ _ + 30 * (q.1 - a) + 24 + 10 * (lE t n (bE t n (q.1)) - bE t n (q.1))
        rw [bb]
        omega
end
