set_option maxRecDepth 100000
/-! the model reads a style -/
def gR : List am_Ru → Nat → am_Ru
  | [], _ => (0, 0, 0, none)
  | p :: _, 0 => p
  | _ :: l, k + 1 => gR l k
theorem gR_ap {x : am_Ru} : ∀ (l : List am_Ru) (k : Nat), k ≤ l.length → gR (l ++ [x]) k = if k < l.length then gR l k else x
  | [], k, h => by
    have e : k = 0 := by
      have : k ≤ 0 := h
      omega
    rw [e]
    rfl
  | p :: l, 0, _ => by
    rw [if_pos (by show 0 < l.length + 1; omega)]
    rfl
  | p :: l, k + 1, h => by
    have h' : k ≤ l.length := by
      have : k + 1 ≤ l.length + 1 := h
      omega
    show gR (l ++ [x]) k = if k + 1 < l.length + 1 then gR l k else x
    rw [gR_ap l k h']
    by_cases c : k < l.length
    · rw [if_pos c, if_pos (by omega)]
    · rw [if_neg c, if_neg (by omega)]
/-- a rule is sound -/
def okOc (oc : Option am_Cd) : Prop := match oc with
  | none => True
  | some c => c.ok ∧ c.hg ≤ 13 ∧ c.cd.length ≤ 400 ∧ c.dp ≤ 59
def okRu (ru : am_Ru) : Prop := (0 ≤ ru.1 ∧ ru.1 ≤ 6) ∧ (0 ≤ ru.2.1 ∧ ru.2.1 ≤ 999) ∧ (0 ≤ ru.2.2.1 ∧ ru.2.2.1 ≤ 999) ∧ (ru.1 = 0 → ru.2.1 ≤ 400) ∧ (ru.1 = 1 → 1 ≤ ru.2.1 ∧ ru.2.1 ≤ 40 ∧ ru.2.2.1 ≤ 40) ∧ (ru.1 = 3 → ru.2.1 ≤ 99) ∧ okOc ru.2.2.2
theorem ifR_ok {t : Int → Int} {n a : Int} {m : Bool} {q : Int × Option am_Cd} (hn : n ≤ 400) (h6 : 4 ≤ a) (ha : a ≤ n) (h : ifR t n m a = .inr q) : (a ≤ q.1 ∧ q.1 ≤ n) ∧ ocL q.2 ≤ q.1 - a ∧ 0 ≤ ocL q.2 ∧ okOc q.2 := by
  have bv := bE_v (t := t) (n := n) (a := a)
  have be := bv.1.2 ha
  unfold ifR at h
  by_cases c : wAt t n (bE t n a) = wIf
  · rw [if_pos c] at h
    have we := wAt_e c be
    have we' : bE t n a + 2 ≤ n := we
    cases r : anR t n (atR t n 5) (bE t n a + 2) with
    | inl x =>
      rw [r] at h
      cases h
    | inr p =>
      rw [r] at h
      obtain ⟨o1, o3, o4, o5, o6, o7, o8⟩ := cnR_ok _ p we' r
      cases h
      refine ⟨⟨by show a ≤ p.1; omega, o1.2⟩, ?_, ?_, o8, o6, ?_, ?_⟩
      · show (p.2.cd.length : Int) ≤ p.1 - a
        omega
      · show (0 : Int) ≤ (p.2.cd.length : Int)
        omega
      · omega
      · omega
  · rw [if_neg c] at h
    by_cases e : m = true
    · rw [if_pos e] at h
      cases h
    · rw [if_neg e] at h
      cases h
      refine ⟨⟨bv.1.1, be⟩, ?_, Int.le_refl _, True.intro⟩
      show (0 : Int) ≤ bE t n a - a
      omega
theorem rlR_ok {t : Int → Int} {n a : Int} {q : Int × am_Ru} (hn : n ≤ 400) (h0 : 0 ≤ a) (ha : a ≤ n) (h : rlR t n a = .inr q) : (a + 3 ≤ q.1 ∧ q.1 ≤ n) ∧ ruL q.2 ≤ q.1 - a ∧ 0 ≤ ruL q.2 ∧ okRu q.2 := by
  have nm : ∀ (p lo hi : Int) (F : Int × Int → Int ⊕ (Int × am_Ru)), p ≤ n → nmT t n p lo hi F = .inr q → ∃ u, (p + 1 ≤ u.1 ∧ u.1 ≤ n) ∧ (lo ≤ u.2 ∧ u.2 ≤ hi) ∧ F u = .inr q := fun p lo hi F hp e => by
    unfold nmT at e
    cases r : nmR t n p lo hi with
    | inl x =>
      rw [r] at e
      cases e
    | inr u =>
      rw [r] at e
      have k := nmR_ok r hp
      exact ⟨u, k.1, k.2.1, e⟩
  have it : ∀ (m : Bool) (p kd f0 : Int), a + 4 ≤ p → p ≤ n → (0 ≤ kd ∧ kd ≤ 6 ∧ kd ≠ 1 ∧ kd ≠ 3) → (0 ≤ f0 ∧ f0 ≤ 999) → (kd = 0 → f0 ≤ 400) → ifT t n m p kd f0 = .inr q → (a + 3 ≤ q.1 ∧ q.1 ≤ n) ∧ ruL q.2 ≤ q.1 - a ∧ 0 ≤ ruL q.2 ∧ okRu q.2 := fun m p kd f0 hp hp2 hk hf hf0 e => by
    unfold ifT at e
    cases r : ifR t n m p with
    | inl x =>
      rw [r] at e
      cases e
    | inr u =>
      rw [r] at e
      have k := ifR_ok hn (by omega) hp2 r
      cases e
      refine ⟨⟨by show a + 3 ≤ u.1; omega, k.1.2⟩, ?_, k.2.2.1, ⟨by show 0 ≤ kd; omega, by show kd ≤ 6; omega⟩, hf, ⟨by show (0 : Int) ≤ 0; omega, by show (0 : Int) ≤ 999; omega⟩, hf0, fun z => absurd z hk.2.2.1, fun z => absurd z hk.2.2.2, k.2.2.2⟩
      show ocL u.2 ≤ u.1 - a
      omega
  unfold rlR at h
  by_cases d1 : wAt t n a = wMeas
  · rw [if_pos d1] at h
    have we : a + 7 ≤ n := wAt_e d1 ha
    obtain ⟨u, u1, u2, u3⟩ := nm _ _ _ _ we h
    exact it false u.1 0 u.2 (by omega) u1.2 (by omega) (by omega) (fun _ => by omega) u3
  rw [if_neg d1] at h
  by_cases d2 : wAt t n a = wSpac
  · rw [if_pos d2] at h
    have we : a + 5 ≤ n := wAt_e d2 ha
    obtain ⟨u, u1, u2, u3⟩ := nm _ _ _ _ we h
    obtain ⟨v, v1, v2, v3⟩ := nm _ _ _ _ u1.2 u3
    cases v3
    exact ⟨⟨by show a + 3 ≤ v.1; omega, v1.2⟩, by show (0 : Int) ≤ v.1 - a; omega, Int.le_refl _, ⟨by show (0 : Int) ≤ 1; omega, by show (1 : Int) ≤ 6; omega⟩, ⟨by show 0 ≤ u.2; omega, by show u.2 ≤ 999; omega⟩, ⟨by show 0 ≤ v.2; omega, by show v.2 ≤ 999; omega⟩, fun z => absurd z (by show ¬ ((1 : Int) = 0); omega), fun _ => ⟨by show 1 ≤ u.2; omega, by show u.2 ≤ 40; omega, by show v.2 ≤ 40; omega⟩, fun z => absurd z (by show ¬ ((1 : Int) = 3); omega), True.intro⟩
  rw [if_neg d2] at h
  by_cases d3 : wAt t n a = wPart
  · rw [if_pos d3] at h
    have we : a + 4 ≤ n := wAt_e d3 ha
    obtain ⟨u, u1, u2, u3⟩ := nm _ _ _ _ we h
    cases u3
    exact ⟨⟨by show a + 3 ≤ u.1; omega, u1.2⟩, by show (0 : Int) ≤ u.1 - a; omega, Int.le_refl _, ⟨by show (0 : Int) ≤ 2; omega, by show (2 : Int) ≤ 6; omega⟩, u2, ⟨by show (0 : Int) ≤ 0; omega, by show (0 : Int) ≤ 999; omega⟩, fun z => absurd z (by show ¬ ((2 : Int) = 0); omega), fun z => absurd z (by show ¬ ((2 : Int) = 1); omega), fun z => absurd z (by show ¬ ((2 : Int) = 3); omega), True.intro⟩
  rw [if_neg d3] at h
  by_cases d4 : wAt t n a = wFat
  · rw [if_pos d4] at h
    have we : a + 3 ≤ n := wAt_e d4 ha
    obtain ⟨u, u1, u2, u3⟩ := nm _ _ _ _ we h
    cases u3
    exact ⟨⟨by show a + 3 ≤ u.1; omega, u1.2⟩, by show (0 : Int) ≤ u.1 - a; omega, Int.le_refl _, ⟨by show (0 : Int) ≤ 3; omega, by show (3 : Int) ≤ 6; omega⟩, ⟨by show 0 ≤ u.2; omega, by show u.2 ≤ 999; omega⟩, ⟨by show (0 : Int) ≤ 0; omega, by show (0 : Int) ≤ 999; omega⟩, fun z => absurd z (by show ¬ ((3 : Int) = 0); omega), fun z => absurd z (by show ¬ ((3 : Int) = 1); omega), fun _ => by show u.2 ≤ 99; omega, True.intro⟩
  rw [if_neg d4] at h
  by_cases d5 : wAt t n a = wPay
  · rw [if_pos d5] at h
    have we : a + 3 ≤ n := wAt_e d5 ha
    obtain ⟨u, u1, u2, u3⟩ := nm _ _ _ _ we h
    exact it false u.1 4 u.2 (by omega) u1.2 (by omega) u2 (fun z => absurd z (by omega)) u3
  rw [if_neg d5] at h
  by_cases d6 : wAt t n a = wFree
  · rw [if_pos d6] at h
    have we : a + 4 ≤ n := wAt_e d6 ha
    exact it true _ 5 0 (by omega) we (by omega) (by omega) (fun z => absurd z (by omega)) h
  rw [if_neg d6] at h
  by_cases d7 : wAt t n a = wClos
  · rw [if_pos d7] at h
    have we : a + 5 ≤ n := wAt_e d7 ha
    obtain ⟨u, u1, u2, u3⟩ := nm _ _ _ _ we h
    have u3' : (if wAt t n (bE t n u.1) = wAtt then nmT t n (bE t n u.1 + 2) 0 600 (fun p => .inr (p.1, 6, u.2, p.2, none)) else .inl (bE t n u.1)) = .inr q := u3
    have bv := bE_v (t := t) (n := n) (a := u.1)
    by_cases d8 : wAt t n (bE t n u.1) = wAtt
    · rw [if_pos d8] at u3'
      have w2 : bE t n u.1 + 2 ≤ n := wAt_e d8 (bv.1.2 u1.2)
      obtain ⟨v, v1, v2, v3⟩ := nm _ _ _ _ w2 u3'
      cases v3
      exact ⟨⟨by show a + 3 ≤ v.1; omega, v1.2⟩, by show (0 : Int) ≤ v.1 - a; omega, Int.le_refl _, ⟨by show (0 : Int) ≤ 6; omega, by show (6 : Int) ≤ 6; omega⟩, ⟨by show 0 ≤ u.2; omega, by show u.2 ≤ 999; omega⟩, ⟨by show 0 ≤ v.2; omega, by show v.2 ≤ 999; omega⟩, fun z => absurd z (by show ¬ ((6 : Int) = 0); omega), fun z => absurd z (by show ¬ ((6 : Int) = 1); omega), fun z => absurd z (by show ¬ ((6 : Int) = 3); omega), True.intro⟩
    · rw [if_neg d8] at u3'
      cases u3'
  rw [if_neg d7] at h
  cases h
theorem syR_b {t : Int → Int} {n a : Int} {f : Nat} {done : List am_Ru} : syR t n (f + 1) (bE t n a) done = syR t n (f + 1) a done := by
  unfold syR
  rw [bE_b]
/-- rules stand in a row -/
def ruS (y : Int → Int) (w : Int) (l : List am_Ru) : Prop := ∀ i : Nat, i < l.length → (∃ w0, 62 ≤ w0 ∧ w0 + ruL (gR l i) ≤ w ∧ ruV y i w0 (gR l i)) ∧ okRu (gR l i) ∧ 0 ≤ ruL (gR l i)
theorem ruV_f {y y' : Int → Int} {j w0 : Int} {ru : am_Ru} (h : ruV y j w0 ru) (e : ∀ i, (2 + 5 * j ≤ i ∧ i < 7 + 5 * j) ∨ (w0 ≤ i ∧ i < w0 + ruL ru) → y' i = y i) : ruV y' j w0 ru := by
  obtain ⟨h1, h2, h3, h4⟩ := h
  obtain ⟨k, f, s, oc⟩ := ru
  cases oc with
  | none =>
    have h4' : y (2 + 5 * j + 3) = 0 ∧ y (2 + 5 * j + 4) = 0 := h4
    exact ⟨(e _ (by omega)).trans h1, (e _ (by omega)).trans h2, (e _ (by omega)).trans h3, (e _ (by omega)).trans h4'.1, (e _ (by omega)).trans h4'.2⟩
  | some c =>
    have h4' : y (2 + 5 * j + 3) = w0 ∧ y (2 + 5 * j + 4) = c.cd.length ∧ cdA y w0 c.cd := h4
    have e' : ∀ i, (2 + 5 * j ≤ i ∧ i < 7 + 5 * j) ∨ (w0 ≤ i ∧ i < w0 + (c.cd.length : Int)) → y' i = y i := e
    exact ⟨(e _ (by omega)).trans h1, (e _ (by omega)).trans h2, (e _ (by omega)).trans h3, (e _ (by omega)).trans h4'.1, (e _ (by omega)).trans h4'.2.1, fun i hi => (e' _ (by omega)).trans (h4'.2.2 i hi)⟩
theorem ruS_s {y y' : Int → Int} {w w' : Int} {l : List am_Ru} {x : am_Ru} (h : ruS y w l) (hl : (l.length : Int) < 12) (hw : 62 ≤ w) (hv : ruV y' l.length w x) (ok : okRu x) (hx : 0 ≤ ruL x) (hw' : w' = w + ruL x) (e : ∀ i, i < w → ¬ (2 + 5 * (l.length : Int) ≤ i ∧ i < 2 + 5 * (l.length : Int) + 5) → y' i = y i) : ruS y' w' (l ++ [x]) := by
  intro i hi
  rw [List.length_append] at hi
  have hi' : i < l.length + 1 := hi
  rw [gR_ap l i (by omega)]
  by_cases c : i < l.length
  · rw [if_pos c]
    obtain ⟨⟨w0, a1, a2, a3⟩, a4, a5⟩ := h i c
    exact ⟨⟨w0, a1, by omega, ruV_f a3 (fun p hp => e p (by omega) (by omega))⟩, a4, a5⟩
  · rw [if_neg c]
    have ei : i = l.length := by omega
    rw [ei]
    exact ⟨⟨w, hw, by omega, hv⟩, ok, hx⟩
section
variable {K : am_K} {b : am_H} {r : Nat} {S : am_G} {V : Nat → Int → Int} {W : Nat → Int}
theorem c_readStyle {t : Int → Int} {n : Int} {D : Nat} (hD : 55 ≤ D) (hn : 0 ≤ n ∧ n ≤ 400) (cr : CsR b r) (h45 : W 45 = n) (h46 : W 46 = 0) (h47 : W 47 = -1) (tp : tpR t (V 4) n) (H0 : ∀ x V' W', styR t n = .inl x → fa [10] V V' → fa [46, 47, 48, 49, 57, 58] W W' → W' 47 = x → K (.inl (some (.inl (0)))) (mo b r (ms S) V' W')) (H1 : ∀ l V' W', styR t n = .inr l → fa [10] V V' → fa [46, 47, 48, 49, 57, 58] W W' → W' 47 = -1 → W' 57 = (l.length : Int) → (62 ≤ W' 58 ∧ W' 58 ≤ 562) → l.length ≤ 12 → ruS (V' 10) (W' 58) l → K (.inl (some (.inl (1)))) (mo b r (ms S) V' W')) : am_ev am_prog D 150 [.inr (.inl r)] (mo b r (ms S) V W) K := by
  obtain ⟨d, rfl⟩ : ∃ d, D = d + 4 := ⟨D - 4, by omega⟩
  refine am_en p_X5_readStyle rfl rfl ?_
  have b0 := bE_v (t := t) (n := n) (a := 0)
  have b0e := b0.1.2 hn.1
  have main : ∀ (f : Nat) (a : Int) (done : List am_Ru) (V1 : Nat → Int → Int) (W1 : Nat → Int), done.length + f = 12 → 0 ≤ a → a ≤ n → fa [10] V V1 → fa [46, 47, 48, 49, 57, 58] W W1 → W1 46 = a → W1 47 = -1 → W1 48 = 0 → W1 57 = (done.length : Int) → 62 ≤ W1 58 ∧ W1 58 + (n - a) ≤ 562 → ruS (V1 10) (W1 58) done → (∀ x V' W', syR t n (f + 1) a done = .inl x → fa [10] V V' → fa [46, 47, 48, 49, 57, 58] W W' → W' 47 = x → K (.inl (some (.inl (0)))) (mo b r (ms S) V' W')) → (∀ l V' W', syR t n (f + 1) a done = .inr l → fa [10] V V' → fa [46, 47, 48, 49, 57, 58] W W' → W' 47 = -1 → W' 57 = (l.length : Int) → (62 ≤ W' 58 ∧ W' 58 ≤ 562) → l.length ≤ 12 → ruS (V' 10) (W' 58) l → K (.inl (some (.inl (1)))) (mo b r (ms S) V' W')) → am_W m_X5_readStyle (am_ev am_prog (d + 3)) K 20 [some (.inr (.inl r)), some (.inl (1))] [] (mo b r (ms S) V1 W1) := by
    intro f
    induction f with
    | zero =>
      intro a done V1 W1 hf ha han hV hW e46 e47 e48 e57 e58 rs G0 G1
      have e4 : V1 4 = V 4 := hV 4 rfl
      refine w_readStyle_20 ⟨fun z => absurd z (by decide), fun _ => c_blanks (t := t) (n := n) (by omega) ((hW 45 rfl).trans h45) hn.2 (by omega) (by rw [e4]; exact tp) (fun W2 hW2 f46 => am_an (w_readStyle_24 ⟨fun z => absurd ?_ z, fun _ => c_fails (by omega) (am_av (w_readStyle_30 ⟨Or.inl rfl, G0 (bE t n a) V1 _ ?_ hV (fa_up (fa_trans hW (fa_sub hW2 rfl)) rfl) ?_⟩))⟩))⟩
      · rw [hW2 57 rfl, e57]
        omega
      · exact if_pos (by omega)
      · rw [am_up_eq, f46, e46]
    | succ f ih =>
      intro a done V1 W1 hf ha han hV hW e46 e47 e48 e57 e58 rs G0 G1
      have e4 : V1 4 = V 4 := hV 4 rfl
      have bv := bE_v (t := t) (n := n) (a := a)
      have be := bv.1.2 han
      refine w_readStyle_20 ⟨fun z => absurd z (by decide), fun _ => c_blanks (t := t) (n := n) (by omega) ((hW 45 rfl).trans h45) hn.2 (by omega) (by rw [e4]; exact tp) (fun W2 hW2 f46 => am_an (w_readStyle_24 ⟨fun _ => ?_, fun z => ?_⟩))⟩
      · rw [e46] at f46
        have fW2 : fa [46, 47, 48, 49, 57, 58] W W2 := fa_trans hW (fa_sub hW2 rfl)
        have nl : ¬ done.length = 12 := by omega
        have g57 : W2 57 = (done.length : Int) := (hW2 57 rfl).trans e57
        have g58 : W2 58 = W1 58 := hW2 58 rfl
        refine c_readRule (t := t) (n := n) (j := (done.length : Int)) (a := (bE t n a)) (by omega) hn.2 cr ((fW2 45 rfl).trans h45) f46 (by omega) ((hW2 48 rfl).trans e48) g57 (by omega) (by rw [e4]; exact tp) (by omega) (fun x V3 W3 hx hV3 hW3 q47 => am_av (w_readStyle_33 ⟨fun z => absurd rfl z, fun _ => ?_⟩)) (fun q V3 W3 hq hV3 hW3 q46 q47 q48 q58 rv old => am_av (w_readStyle_33 ⟨fun _ => ?_, fun z => absurd z (by decide)⟩))
        · rw [bE_b] at hx
          refine G0 x V3 W3 ?_ (fa_trans hV hV3) (fa_trans fW2 (fa_sub hW3 rfl)) q47
          unfold syR
          rw [if_neg nl, hx]
        · rw [bE_b] at hq
          have ok := rlR_ok hn.2 (by omega) be hq
          have r57 : W3 57 = (done.length : Int) := (hW3 57 rfl).trans g57
          have fW3 : fa [46, 47, 48, 49, 57, 58] W W3 := fa_trans fW2 (fa_sub hW3 rfl)
          have e43 : V3 4 = V 4 := (hV3 4 rfl).trans e4
          rw [r57]
          have qv := bE_v (t := t) (n := n) (a := q.1)
          have qe := qv.1.2 ok.1.2
          have ld : ((done ++ [q.2]).length : Int) = (done.length : Int) + 1 := by
            rw [List.length_append]
            rfl
          have ld' : (done ++ [q.2]).length = done.length + 1 := by
            rw [List.length_append]
            rfl
          have er : syR t n (f + 1 + 1) a done = (if n ≤ bE t n q.1 then .inr (done ++ [q.2]) else if t (bE t n q.1) = 59 then syR t n (f + 1) (bE t n q.1 + 1) (done ++ [q.2]) else .inl (bE t n q.1)) := by
            show (if done.length = 12 then _ else _) = _
            rw [if_neg nl, hq]
          rw [er] at G0 G1
          refine ⟨by omega, c_blanks (t := t) (n := n) (by omega) ?_ hn.2 ?_ (by rw [e43]; exact tp) (fun W4 hW4 s46 => am_an (w_readStyle_44 ?_))⟩
          · rw [am_up_ne (by decide)]
            exact (fW3 45 rfl).trans h45
          · rw [am_up_ne (by decide), q46]
            omega
          · rw [am_up_ne (by decide), q46] at s46
            have fW4 : fa [46, 47, 48, 49, 57, 58] W W4 := fa_trans (fa_up fW3 rfl) (fa_sub hW4 rfl)
            have s45 : W4 45 = n := (fW4 45 rfl).trans h45
            have s47 : W4 47 = -1 := by
              rw [hW4 47 rfl, am_up_ne (by decide), q47, hW2 47 rfl, e47]
            have s48 : W4 48 = 0 := by
              rw [hW4 48 rfl, am_up_ne (by decide), q48]
            have s57 : W4 57 = ((done ++ [q.2]).length : Int) := by
              rw [hW4 57 rfl, am_up_eq, ld]
            have s58 : W4 58 = W1 58 + ruL q.2 := by
              rw [hW4 58 rfl, am_up_ne (by decide), q58, g58]
            have rs4 : ruS (V3 10) (W4 58) (done ++ [q.2]) := by
              rw [g58] at rv old
              exact ruS_s rs (by omega) (by omega) rv ok.2.2.2 ok.2.2.1 s58 old
            have hV13 := fa_trans hV hV3
            have en : n ≤ bE t n q.1 → am_W m_X5_readStyle (am_ev am_prog (d + 3)) K 20 [some (.inr (.inl r)), some (.inl (0))] [] (mo b r (ms S) V3 W4) := fun z => w_readStyle_20 ⟨fun _ => G1 (done ++ [q.2]) V3 W4 (if_pos z) hV13 fW4 s47 s57 (by omega) (by omega) rs4, fun w => absurd rfl w⟩
            have bad : ¬ n ≤ bE t n q.1 → ¬ t (bE t n q.1) = 59 → ∀ v, am_ev am_prog (d + 3) 258 [.inr (.inl r)] (mo b r (ms S) V3 W4) (am_aft (am_hand m_X5_readStyle K (am_W m_X5_readStyle (am_ev am_prog (d + 3)) K) 75) (am_W m_X5_readStyle (am_ev am_prog (d + 3)) K) 75 [some (.inr (.inl r)), some (.inl (v))] []) := fun z z2 v => c_fails (by omega) (am_av (w_readStyle_76 ⟨Or.inl rfl, G0 (bE t n q.1) V3 _ (by rw [if_neg z, if_neg z2]) hV13 (fa_up fW4 rfl) (by rw [am_up_eq, s46])⟩))
            rw [s45, s46, e43]
            refine ⟨fun z => ⟨fun _ => en z, fun w => absurd w (by omega)⟩, fun z => ⟨by omega, fun z2 => ⟨fun w => absurd w (by omega), fun w => bad (by omega) (fun y => z2 ((tp_c tp (by omega) z (by omega)).2 y)) _⟩, fun z2 => ⟨by omega, ?_⟩⟩⟩
            have z2' := (tp_c tp (by omega) z (by omega)).1 z2
            rw [if_neg (by omega), if_pos z2'] at G0 G1
            rw [am_bt z2]
            exact ih (bE t n q.1 + 1) (done ++ [q.2]) V3 _ (by omega) (by omega) (by omega) hV13 (fa_up fW4 rfl) am_up_eq ((am_up_ne (by decide)).trans s47) ((am_up_ne (by decide)).trans s48) ((am_up_ne (by decide)).trans s57) (by rw [am_up_ne (by decide)]; omega) (by rw [am_up_ne (by decide)]; exact rs4) G0 G1
      · exfalso
        rw [hW2 57 rfl, e57] at z
        omega
  refine w_readStyle_0 (c_blanks (t := t) (n := n) (by omega) ?_ hn.2 ?_ tp (fun W2 hW2 f46 => am_an (w_readStyle_11 ?_)))
  · rw [am_up_ne (by decide), am_up_ne (by decide), am_up_ne (by decide), h45]
  · rw [am_up_ne (by decide), am_up_ne (by decide), am_up_ne (by decide), h46]
    omega
  · rw [am_up_ne (by decide), am_up_ne (by decide), am_up_ne (by decide), h46] at f46
    have fW2 : fa [46, 47, 48, 49, 57, 58] W W2 := fa_trans (fa_up (fa_up (fa_up fa_refl rfl) rfl) rfl) (fa_sub hW2 rfl)
    have f45 : W2 45 = n := (fW2 45 rfl).trans h45
    have f47 : W2 47 = -1 := by
      rw [hW2 47 rfl, am_up_ne (by decide), am_up_ne (by decide), am_up_ne (by decide), h47]
    have f48 : W2 48 = 0 := by
      rw [hW2 48 rfl, am_up_eq]
    have f57 : W2 57 = 0 := by
      rw [hW2 57 rfl, am_up_ne (by decide), am_up_ne (by decide), am_up_eq]
    have f58 : W2 58 = 62 := by
      rw [hW2 58 rfl, am_up_ne (by decide), am_up_eq]
    have s0 : ruS (V 10) (W2 58) [] := fun i hi => absurd hi (Nat.not_lt_zero _)
    rw [f46, f45]
    by_cases c : n ≤ bE t n 0
    · rw [am_bf (by omega)]
      have er : styR t n = .inr [] := if_pos c
      exact w_readStyle_20 ⟨fun _ => H1 [] V W2 er fa_refl fW2 f47 f57 (by omega) (Nat.zero_le _) s0, fun z => absurd rfl z⟩
    · rw [am_bt (by omega)]
      have er : styR t n = syR t n 13 (bE t n 0) [] := by
        unfold styR
        rw [if_neg c]
        exact syR_b.symm
      rw [er] at H0 H1
      exact main 12 (bE t n 0) [] V W2 rfl (by omega) b0e fa_refl fW2 f46 f47 f48 f57 (by omega) s0 H0 H1
/-- a style has come -/
def syT (S : am_G) (m : Int) (l : List am_Ru) (S' : am_G) : Prop := (∀ c, c ≠ 0 → c ≠ 6 → S' c = S c) ∧ ((∀ j, j ≠ 2 → S' 0 0 j = S 0 0 j) ∧ S' 0 0 2 = (S 0 0 2) + 1) ∧ (∀ k, k ≠ (S 0 0 2) → S' 6 k = S 6 k) ∧ S' 6 (S 0 0 2) 0 = m ∧ S' 6 (S 0 0 2) 1 = (l.length : Int) ∧ l.length ≤ 12 ∧ ruS (S' 6 (S 0 0 2)) 562 l
theorem M_style {t : Int → Int} {m : Int} {D : Nat} (hD : 90 ≤ D) (h02 : 0 ≤ (S 0 0 2) ∧ (S 0 0 2) ≤ 10) (cr : CsR b r) (okv : okVs V) (h44 : 0 ≤ W 44 ∧ W 44 ≤ 400) (tp : tpR t (V 4) (W 44)) (H0 : ¬ (S 0 0 0 ≤ m ∧ m ≤ 600) → MF b r K S V W 1 (0) 0 (W 47)) (H3 : S 0 0 0 ≤ m ∧ m ≤ 600 → ∀ x, styR t (W 44) = .inl x → MF b r K S V W 1 (0) 0 (x)) (H4 : S 0 0 0 ≤ m ∧ m ≤ 600 → ∀ l, styR t (W 44) = .inr l → (S 0 0 2) = 10 → MF b r K S V W 2 (0) 0 (-1)) (H1 : S 0 0 0 ≤ m ∧ m ≤ 600 → ∀ l S', styR t (W 44) = .inr l → (S 0 0 2) ≠ 10 → syT S m l S' → MF b r K S' V W 0 ((l.length : Int)) 0 (-1)) : am_ev am_prog D 46 [.inr (.inl r), .inl m] (mo b r (ms S) V W) K := by
  obtain ⟨d, rfl⟩ : ∃ d, D = d + 4 := ⟨D - 4, by omega⟩
  refine am_en p_X5_style rfl rfl ?_
  refine w_style_0 (c_use (by omega) (fun W1 hW1 k44 k45 k46 => am_an (w_style_2 ⟨fun c => ?_, fun c => ?_⟩)))
  · have HH3 := H3 c
    have HH4 := H4 c
    have HH1 := H1 c
    have okV : ∀ V', fa [10] V V' → okVs V' := fun V' h => by
      unfold okVs
      rw [h 5 rfl, h 6 rfl, h 7 rfl]
      exact okv
    have pf : ∀ (V' : Nat → Int → Int) (W' : Nat → Int) (fl : Int), fa [10] V V' → fa [46, 47, 48, 49, 57, 58] (am_up (am_up W1 38 0) 47 (-1)) W' → W' 47 = fl → ∀ W2 : Nat → Int, (∀ c, c ≠ 38 → W2 c = W' c) → pF V W V' W2 0 fl := fun V' W' fl hV hW e47 W2 e => by
      refine ⟨hV 2 rfl, hV 4 rfl, okV V' hV, ?_, ?_, ?_⟩
      · rw [e 42 (by decide), hW 42 rfl, am_up_ne (by decide), am_up_ne (by decide), hW1 42 rfl]
      · rw [e 44 (by decide), hW 44 rfl, am_up_ne (by decide), am_up_ne (by decide), k44]
      · rw [e 47 (by decide), e47]
    refine c_readStyle (t := t) (n := W 44) (by omega) h44 cr ?_ ?_ am_up_eq tp (fun x V' W' hx hV hW f47 => am_av (w_style_25 ⟨fun z => absurd rfl z, fun _ => HH3 x hx _ _ (pf V' W' x hV hW f47 _ (fun c hc => am_up_ne hc)) am_up_eq⟩)) (fun l V' W' hl hV hW f47 f57 f58 l12 rs => am_av (w_style_25 ⟨fun _ => ?_, fun z => absurd z (by decide)⟩))
    · rw [am_up_ne (by decide), am_up_ne (by decide), k45]
    · rw [am_up_ne (by decide), am_up_ne (by decide), k46]
    · have g38 : W' 38 = 0 := by
        rw [hW 38 rfl, am_up_ne (by decide), am_up_eq]
      refine ⟨fun g => ⟨fun _ => ⟨by omega, ?_⟩, fun z => absurd z (by omega)⟩, fun g => HH4 l hl g _ _ (pf V' W' (-1) hV hW f47 _ (fun c hc => am_up_ne hc)) am_up_eq⟩
      have copy : ∀ i, 2 ≤ i → i ≤ W' 58 → ∀ Z : am_G, (∀ c, c ≠ 6 → Z c = S c) → (∀ k, k ≠ (S 0 0 2) → Z 6 k = S 6 k) → (∀ o, 2 ≤ o → o < i → Z 6 (S 0 0 2) o = V' 10 o) → am_W m_X5_style (am_ev am_prog (d + 3)) K 55 [some (.inr (.inl r)), some (.inl (m)), some (.inl (320962 + 562 * (S 0 0 2))), some (.inl (i))] [] (mo b r (ms Z) V' W') := by
        refine lp_z ?_ ?_
        · intro i i1 i2 hL Z z1 z2 z3
          refine w_style_55 ⟨fun z => absurd z (by omega), fun _ => ⟨by omega, by omega, hL _ (fun c hc => (u3_r hc).trans (z1 c hc)) (fun k hk => (u3_rp hk).trans (z2 k hk)) (fun p p1 p2 => ?_)⟩⟩
          by_cases e : p = i
          · rw [e, u3_eq]
          · rw [u3_no e]
            exact z3 p p1 (by omega)
        · intro Z z1 z2 z3
          have e02 : Z 0 0 2 = (S 0 0 2) := by rw [z1 0 (by decide)]
          refine w_style_55 ⟨fun _ => ?_, fun z => absurd z (by omega)⟩
          rw [e02, f57]
          refine ⟨by omega, by omega, by omega, HH1 l _ hl g ?_ _ _ (pf V' W' (-1) hV hW f47 _ (fun c hc => rfl)) g38⟩
          refine ⟨fun c c0 c6 => ?_, ⟨fun j hj => ?_, u3_eq⟩, fun k hk => ?_, ?_, ?_, l12, fun i hi => ?_⟩
          · rw [u3_r c0, u3_r c6, u3_r c6, z1 c c6]
          · rw [u3_no hj, u3_nc (by decide), u3_nc (by decide), z1 0 (by decide)]
          · rw [u3_r (by decide), u3_rp hk, u3_rp hk, z2 k hk]
          · rw [u3_nc (by decide), u3_no (by decide), u3_eq]
          · rw [u3_nc (by decide), u3_eq]
          · obtain ⟨⟨w0, a1, a2, a3⟩, a4, a5⟩ := rs i hi
            refine ⟨⟨w0, a1, by omega, ruV_f a3 (fun p hp => ?_)⟩, a4, a5⟩
            have p2 : 2 ≤ p ∧ p < W' 58 := by omega
            rw [u3_nc (by decide), u3_no (by omega), u3_no (by omega)]
            exact z3 p p2.1 p2.2
      exact copy 2 (by omega) (by omega) S (fun _ _ => rfl) (fun _ _ => rfl) (fun o o1 o2 => absurd o1 (by omega))
  · refine H0 c _ _ ⟨rfl, rfl, okv, ?_, ?_, ?_⟩ am_up_eq
    · rw [am_up_ne (by decide), hW1 42 rfl]
    · rw [am_up_ne (by decide), k44]
    · rw [am_up_ne (by decide), hW1 47 rfl]
end
