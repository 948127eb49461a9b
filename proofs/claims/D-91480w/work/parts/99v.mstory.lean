set_option maxRecDepth 100000
/-! the model reads a story -/
def pvH (t : Int → Int) (V : Nat → Int → Int) (p : Int) (l : List am_Pz) : Prop := V 8 p = (l.length : Int) ∧ ∀ k : Nat, k < l.length → V 5 (40 * p + k) = (gP l k).1 ∧ V 6 (40 * p + k) = (gP l k).2.2.1 ∧ ∀ i, 0 ≤ i → i < (gP l k).2.2.1 → V 7 (12 * (40 * p + k) + i) = t ((gP l k).2.1 + i) - 97
/-- pieces of sound lengths -/
def lnP (l : List am_Pz) : Prop := (l.length : Int) ≤ 40 ∧ ∀ k : Nat, k < l.length → (gP l k).2.2.1 ≤ 12
theorem lnP_ch {t : Int → Int} {l : List am_Pz} {w0 w1 : Int} (h : chP t w0 l w1) (hl : (l.length : Int) ≤ 40) : lnP l := ⟨hl, fun k hk => (chP_g l w0 w1 h k hk).1.2⟩
theorem pvH_A {t : Int → Int} {V V' : Nat → Int → Int} {p : Int} {l e : List am_Pz} (h : pvH t V p l) (hl : lnP l) (a : pvA t V V' p (V 8 p) e) : pvH t V' p (l ++ e) := by
  obtain ⟨h1, h2⟩ := h
  obtain ⟨a1, a2, a3, a4, a5⟩ := a
  rw [h1] at a2 a3 a4 a5
  refine ⟨?_, fun k hk => ?_⟩
  · rw [a2, List.length_append]
    omega
  · rw [gP_ap]
    by_cases c : k < l.length
    · rw [if_pos c]
      have q := h2 k c
      have w := a3 (40 * p + k) (by omega)
      have l12 := hl.2 k c
      refine ⟨w.1.trans q.1, w.2.trans q.2.1, fun i i1 i2 => (a4 _ (by omega)).trans (q.2.2 i i1 i2)⟩
    · rw [if_neg c]
      rw [List.length_append] at hk
      have q := a5 (k - l.length) (by omega)
      have e1 : 40 * p + (l.length : Int) + ((k - l.length : Nat) : Int) = 40 * p + (k : Int) := by omega
      rw [e1] at q
      exact q
theorem pvH_o {t : Int → Int} {V V' : Nat → Int → Int} {p i : Int} {l e : List am_Pz} (h : pvH t V i l) (hl : lnP l) (hi : i < p) (h8 : 0 ≤ V 8 p) (a : pvA t V V' p (V 8 p) e) : pvH t V' i l := by
  obtain ⟨h1, h2⟩ := h
  obtain ⟨a1, a2, a3, a4, a5⟩ := a
  refine ⟨(a1 i (by omega)).trans h1, fun k hk => ?_⟩
  have q := h2 k hk
  have w := a3 (40 * i + k) (by have := hl.1; omega)
  have l12 := hl.2 k hk
  have l40 := hl.1
  exact ⟨w.1.trans q.1, w.2.trans q.2.1, fun j j1 j2 => (a4 _ (by omega)).trans (q.2.2 j j1 j2)⟩
theorem pvH_c {t : Int → Int} {V V' : Nat → Int → Int} {p : Int} {l : List am_Pz} (h : pvH t V p l) (e5 : V' 5 = V 5) (e6 : V' 6 = V 6) (e7 : V' 7 = V 7) (e8 : V' 8 p = V 8 p) : pvH t V' p l := by
  unfold pvH
  rw [e5, e6, e7, e8]
  exact h
abbrev am_Pt := Int × List am_Pz
def gD : List am_Pt → Nat → am_Pt
  | [], _ => (0, [])
  | p :: _, 0 => p
  | _ :: l, k + 1 => gD l k
theorem gD_ap {x : am_Pt} : ∀ (l : List am_Pt) (k : Nat), k ≤ l.length → gD (l ++ [x]) k = if k < l.length then gD l k else x
  | [], k, h => by
    have e : k = 0 := by
      have : k ≤ 0 := h
      omega
    rw [e]
    rfl
  | p :: l, 0, _ => by
    rw [if_pos (by show 0 < l.length + 1; omega)]
    rfl
  | p :: l, k + 1, h => by
    have h' : k ≤ l.length := by
      have : k + 1 ≤ l.length + 1 := h
      omega
    show gD (l ++ [x]) k = if k + 1 < l.length + 1 then gD l k else x
    rw [gD_ap l k h']
    by_cases c : k < l.length
    · rw [if_pos c, if_pos (by omega)]
    · rw [if_neg c, if_neg (by omega)]
/-- a part that was read is sound -/
def okPt (t : Int → Int) (x : am_Pt) : Prop := (1 ≤ x.1 ∧ x.1 ≤ 24) ∧ chP t 0 x.2 x.1 ∧ laP x.2 ∧ (x.2.length : Int) ≤ 40
def dnH (t : Int → Int) (V : Nat → Int → Int) (l : List am_Pt) : Prop := ∀ i : Nat, i < l.length → V 9 i = (gD l i).1 ∧ pvH t V i (gD l i).2 ∧ okPt t (gD l i)
theorem dnH_s {t : Int → Int} {V : Nat → Int → Int} {l : List am_Pt} {x : am_Pt} (h : dnH t V l) (e9 : V 9 l.length = x.1) (p : pvH t V l.length x.2) (o : okPt t x) : dnH t V (l ++ [x]) := by
  intro i hi
  rw [List.length_append] at hi
  have hi' : i < l.length + 1 := hi
  rw [gD_ap l i (by omega)]
  by_cases c : i < l.length
  · rw [if_pos c]
    exact h i c
  · rw [if_neg c]
    have e : i = l.length := by omega
    rw [e]
    exact ⟨e9, p, o⟩
/-- what is yet to be read, as the model goes -/
def CR (t : Int → Int) (n : Int) (done : List am_Pt) (a nw : Int) (cur : List am_Pz) : Int ⊕ List am_Pt := soT t n done.length (if nw = 0 ∨ (a < n ∧ (97 ≤ t a ∧ t a ≤ 122)) then paR t n a nw cur else .inr (a, nw, cur)) (fun z p => soR t n (4 - done.length) z (done ++ [p])) done
theorem CR_0 {t : Int → Int} {n a : Int} : soR t n 5 a [] = CR t n [] (bE t n a) 0 [] := rfl
theorem CR_n {t : Int → Int} {n a : Int} {done : List am_Pt} {p : am_Pt} (h : done.length < 4) : soR t n (4 - done.length) a (done ++ [p]) = CR t n (done ++ [p]) (bE t n a) 0 [] := by
  have e : 4 - done.length = (4 - (done ++ [p]).length) + 1 := by
    rw [List.length_append]
    show 4 - done.length = 4 - (done.length + 1) + 1
    omega
  rw [e]
  rfl
section
variable {K : am_K} {b : am_H} {r : Nat} {S : am_G} {V : Nat → Int → Int} {W : Nat → Int}
theorem c_readStory {t : Int → Int} {n : Int} {D : Nat} (hD : 6 ≤ D) (h45 : W 45 = n) (hn : 0 ≤ n ∧ n ≤ 400) (h46 : W 46 = 0) (h47 : W 47 = -1) (tp : tpR t (V 4) n) (ok : okVs V) (H0 : ∀ x V' W', soR t n 5 0 [] = .inl x → fa [5, 6, 7, 8, 9] V V' → fa [46, 47, 55] W W' → W' 47 = x → okVs V' → K (.inl (some (.inl (0)))) (mo b r (ms S) V' W')) (H1 : ∀ l V' W', soR t n 5 0 [] = .inr l → fa [5, 6, 7, 8, 9] V V' → fa [46, 47, 55] W W' → W' 47 = -1 → okVs V' → dnH t V' l → W' 55 + 1 = (l.length : Int) → l.length ≤ 5 → K (.inl (some (.inl (1)))) (mo b r (ms S) V' W')) : am_ev am_prog D 170 [.inr (.inl r)] (mo b r (ms S) V W) K := by
  obtain ⟨d, rfl⟩ : ∃ d, D = d + 4 := ⟨D - 4, by omega⟩
  refine am_en p_X5_readStory rfl rfl ?_
  have main : ∀ (f : Nat) (a nw : Int) (done : List am_Pt) (cur : List am_Pz) (V1 : Nat → Int → Int) (W1 : Nat → Int) (o1 : Option am_V), (n - a).toNat ≤ f → 0 ≤ a → a ≤ n → W1 46 = a → W1 47 = -1 → W1 55 = done.length → done.length ≤ 4 → V1 9 done.length = nw → pvH t V1 done.length cur → chP t 0 cur nw → (cur.length : Int) ≤ 40 → (0 ≤ nw ∧ nw ≤ 24) → (nw = 0 → cur = []) → (nw ≠ 0 → laP cur) → dnH t V1 done → fa [5, 6, 7, 8, 9] V V1 → fa [46, 47, 55] W W1 → okVs V1 → (∀ x V' W', CR t n done a nw cur = .inl x → fa [5, 6, 7, 8, 9] V V' → fa [46, 47, 55] W W' → W' 47 = x → okVs V' → K (.inl (some (.inl (0)))) (mo b r (ms S) V' W')) → (∀ l V' W', CR t n done a nw cur = .inr l → fa [5, 6, 7, 8, 9] V V' → fa [46, 47, 55] W W' → W' 47 = -1 → okVs V' → dnH t V' l → W' 55 + 1 = (l.length : Int) → l.length ≤ 5 → K (.inl (some (.inl (1)))) (mo b r (ms S) V' W')) → am_W m_X5_readStory (am_ev am_prog (d + 3)) K 15 [some (.inr (.inl r)), o1] [] (mo b r (ms S) V1 W1) := by
    intro f
    induction f with
    | zero =>
      intro a nw done cur V1 W1 o1 hf ha han e46 e47 e55 m4 e9 pv ch cl bn z0 zl dh hV hW okv G0 G1
      have e45 : W1 45 = n := (hW 45 rfl).trans h45
      have en : ¬ (a < n ∧ (97 ≤ t a ∧ t a ≤ 122)) := fun z => absurd z.1 (by omega)
      refine w_readStory_15 ?_
      rw [e45, e46, e55, e9, e47]
      refine ⟨fun _ => ⟨by omega, fun c => ?_, fun c => ?_⟩, fun z => absurd z (by omega)⟩
      · have er : CR t n done a nw cur = .inr (done ++ [(nw, cur)]) := by
          unfold CR
          rw [if_neg (fun z => z.elim c en)]
          exact if_pos (by show n ≤ a; omega)
        have b1 : am_b ((-1 : Int) = -1) = 1 := by decide
        rw [b1]
        refine G1 _ _ _ er hV hW e47 okv (dnH_s dh e9 pv ⟨by show 1 ≤ nw ∧ nw ≤ 24; omega, ch, zl c, cl⟩) ?_ ?_
        · rw [e55, List.length_append]
          rfl
        · rw [List.length_append]
          show done.length + 1 ≤ 5
          omega
      · have er : CR t n done a nw cur = .inl a := by
          unfold CR
          rw [if_pos (Or.inl c), paR_0 (Or.inr en)]
          rfl
        have b0 : am_b (n = -1) = 0 := am_bf (by omega)
        rw [b0]
        refine G0 a _ _ er hV (fa_up hW rfl) ?_ okv
        rw [am_up_eq]
        omega
    | succ f ih =>
      intro a nw done cur V1 W1 o1 hf ha han e46 e47 e55 m4 e9 pv ch cl bn z0 zl dh hV hW okv G0 G1
      have e45 : W1 45 = n := (hW 45 rfl).trans h45
      have e4 : V1 4 = V 4 := hV 4 rfl
      refine w_readStory_15 ?_
      rw [e45, e46, e55, e9, e47, e4]
      refine ⟨fun z => ?_, fun z => ⟨by omega, fun z2 => ?_, fun z2 => ?_⟩⟩
      · -- the end
        have en : ¬ (a < n ∧ (97 ≤ t a ∧ t a ≤ 122)) := fun z => absurd z.1 (by omega)
        refine ⟨by omega, fun c => ?_, fun c => ?_⟩
        · have er : CR t n done a nw cur = .inr (done ++ [(nw, cur)]) := by
            unfold CR
            rw [if_neg (fun z => z.elim c en)]
            exact if_pos (by show n ≤ a; omega)
          have b1 : am_b ((-1 : Int) = -1) = 1 := by decide
          rw [b1]
          refine G1 _ _ _ er hV hW e47 okv (dnH_s dh e9 pv ⟨by show 1 ≤ nw ∧ nw ≤ 24; omega, ch, zl c, cl⟩) ?_ ?_
          · rw [e55, List.length_append]
            rfl
          · rw [List.length_append]
            show done.length + 1 ≤ 5
            omega
        · have er : CR t n done a nw cur = .inl a := by
            unfold CR
            rw [if_pos (Or.inl c), paR_0 (Or.inr en)]
            rfl
          have b0 : am_b (n = -1) = 0 := am_bf (by omega)
          rw [b0]
          refine G0 a _ _ er hV (fa_up hW rfl) ?_ okv
          rw [am_up_eq]
          omega
      · -- no letter
        have en : ¬ (a < n ∧ (97 ≤ t a ∧ t a ≤ 122)) := fun y => z2 ((tp_l tp ha z).2 y.2)
        have bad : nw = 0 ∨ ¬ (t a = 47 ∧ done.length + 1 ≠ 5) → CR t n done a nw cur = .inl a := fun c => by
          unfold CR
          by_cases c0 : nw = 0
          · rw [if_pos (Or.inl c0), paR_0 (Or.inr en)]
            rfl
          · rw [if_neg (fun z => z.elim c0 en)]
            have c' := c.resolve_left c0
            show (if n ≤ a then _ else if t a = 47 ∧ done.length + 1 ≠ 5 then _ else _) = _
            rw [if_neg (by omega), if_neg c']
        refine ⟨fun c => G0 a _ _ (bad (Or.inr (fun y => c ((tp_c tp ha z (by omega)).2 y.1)))) hV (fa_up hW rfl) am_up_eq okv, fun c => ⟨by omega, fun c2 => G0 a _ _ (bad (Or.inl (by omega))) hV (fa_up hW rfl) am_up_eq okv, fun c2 => ⟨fun c3 => G0 a _ _ (bad (Or.inr (fun y => y.2 (by omega)))) hV (fa_up hW rfl) am_up_eq okv, fun c3 => ⟨by omega, by omega, by omega, by omega, ?_⟩⟩⟩⟩
        have c' := (tp_c tp ha z (by omega)).1 c
        have er : CR t n done a nw cur = CR t n (done ++ [(nw, cur)]) (bE t n (a + 1)) 0 [] := by
          rw [← CR_n (by omega)]
          unfold CR
          rw [if_neg (fun y => y.elim (fun w => by omega) en)]
          show (if n ≤ a then _ else if t a = 47 ∧ done.length + 1 ≠ 5 then _ else _) = _
          rw [if_neg (by omega), if_pos ⟨c', by omega⟩]
        rw [er] at G0 G1
        have lm : (done ++ [(nw, cur)]).length = done.length + 1 := by
          rw [List.length_append]
          rfl
        have bv := bE_v (t := t) (n := n) (a := a + 1)
        have u8 : ∀ (A : Int → Int) (B : Int → Int), am_up (am_up V1 8 A) 9 B 8 = A := fun A B => (am_up_ne (by decide)).trans am_up_eq
        have u9 : ∀ (A : Int → Int) (B : Int → Int), am_up (am_up V1 8 A) 9 B 9 = B := fun A B => am_up_eq
        have uo : ∀ (A : Int → Int) (B : Int → Int) c, c ≠ 8 → c ≠ 9 → am_up (am_up V1 8 A) 9 B c = V1 c := fun A B c h8 h9 => (am_up_ne h9).trans (am_up_ne h8)
        refine c_blanks (t := t) (n := n) (by omega) ?_ hn.2 ?_ ?_ (fun W2 hW2 f46 => am_an (w_readStory_133 ?_))
        · rw [am_up_ne (by decide), am_up_ne (by decide), e45]
        · rw [am_up_eq]
          omega
        · rw [uo _ _ 4 (by decide) (by decide), e4]
          exact tp
        · rw [am_up_eq] at f46
          have k47 : W2 47 = -1 := by
            rw [hW2 47 rfl, am_up_ne (by decide), am_up_ne (by decide), e47]
          have k55 : W2 55 = (done.length : Int) + 1 := by
            rw [hW2 55 rfl, am_up_ne (by decide), am_up_eq]
          have em : ((done ++ [(nw, cur)]).length : Int) = (done.length : Int) + 1 := by
            rw [lm]
            rfl
          refine ih (bE t n (a + 1)) 0 (done ++ [(nw, cur)]) [] _ W2 _ (by omega) (by omega) (bv.1.2 (by omega)) f46 k47 (by rw [em, k55]) (by omega) ?_ ⟨?_, fun k hk => absurd hk (Nat.not_lt_zero _)⟩ rfl (by show (0 : Int) ≤ 40; omega) (by omega) (fun _ => rfl) (fun y => absurd rfl y) ?_ (fa_up (fa_up hV rfl) rfl) (fa_trans (fa_up (fa_up hW rfl) rfl) (fa_sub hW2 rfl)) ?_ G0 G1
          · rw [u9, em, am_uz_eq]
          · rw [u8, em, am_uz_eq]
            rfl
          · have d1 := dnH_s dh e9 pv (x := (nw, cur)) ⟨by show 1 ≤ nw ∧ nw ≤ 24; omega, ch, zl (by omega), cl⟩
            intro i hi
            have q := d1 i hi
            have ni : (i : Int) ≠ (done.length : Int) + 1 := by
              rw [lm] at hi
              omega
            refine ⟨?_, pvH_c q.2.1 (uo _ _ 5 (by decide) (by decide)) (uo _ _ 6 (by decide) (by decide)) (uo _ _ 7 (by decide) (by decide)) ?_, q.2.2⟩
            · rw [u9, am_uz_ne ni]
              exact q.1
            · rw [u8, am_uz_ne ni]
          · unfold okVs
            rw [uo _ _ 5 (by decide) (by decide), uo _ _ 6 (by decide) (by decide), uo _ _ 7 (by decide) (by decide)]
            exact okv
      · -- a word
        have z2' := (tp_l tp ha z).1 z2
        refine ⟨by omega, fun c => ⟨by omega, ?_⟩, fun c => G0 a _ _ ?_ hV (fa_up hW rfl) am_up_eq okv⟩
        · have nl : ¬ (nw = 24 ∨ ¬ (a < n ∧ (97 ≤ t a ∧ t a ≤ 122))) := fun y => y.elim c (fun w => w ⟨z, z2'⟩)
          have e8 : V1 8 done.length = (cur.length : Int) := pv.1
          have e0 : 0 + V1 8 done.length = (cur.length : Int) := by omega
          have ex : CR t n done a nw cur = soT t n done.length (paR t n a nw cur) (fun z p => soR t n (4 - done.length) z (done ++ [p])) done := by
            unfold CR
            rw [if_pos (Or.inr ⟨z, z2'⟩)]
          refine c_readWord (t := t) (n := n) (a := a) (p := (done.length : Int)) (by omega) e45 hn.2 e46 ha ⟨z, z2'⟩ (by rw [e4]; exact tp) e55 (by omega) (by omega) (by omega) (by omega) okv (fun x V2 W2 hx hV2 hW2 f47 ok2 n2 => am_av (w_readStory_54 ⟨fun y => absurd rfl y, fun _ => ?_⟩)) (fun q V2 W2 hq hV2 hW2 f46 ok2 pa => am_av (w_readStory_54 ⟨fun _ => ?_, fun y => absurd y (by decide)⟩))
          · rw [e0] at hx
            refine G0 x _ _ ?_ (fa_trans hV (fa_sub hV2 rfl)) (fa_trans hW (fa_sub hW2 rfl)) f47 ok2
            rw [ex, paR_l nl hx]
            rfl
          · rw [e0] at hq
            have wv := wdR_v (n - a).toNat a cur.length (Nat.le_refl _) ⟨z, z2'⟩ cl q hq
            have pr := paR_r nl cl hq
            have bv := bE_v (t := t) (n := n) (a := q.1)
            have f45 : W2 45 = n := (hW2 45 rfl).trans e45
            have f55 : W2 55 = done.length := (hW2 55 rfl).trans e55
            have f47 : W2 47 = -1 := (hW2 47 rfl).trans e47
            have f4 : V2 4 = V 4 := (hV2 4 rfl).trans e4
            have f9 : V2 9 = V1 9 := hV2 9 rfl
            have g9 : V2 9 done.length = nw := by rw [f9, e9]
            have hV3 : fa [5, 6, 7, 8, 9] V (am_up V2 9 (am_uz (V2 9) done.length (nw + 1))) := fa_up (fa_trans hV (fa_sub hV2 rfl)) rfl
            have hW2' : fa [46, 47, 55] W W2 := fa_trans hW (fa_sub hW2 rfl)
            have ok3 : okVs (am_up V2 9 (am_uz (V2 9) done.length (nw + 1))) := ok2
            have er : CR t n done a nw cur = CR t n done (bE t n q.1) (nw + 1) (cur ++ q.2) := by
              rw [ex, pr]
              unfold CR
              by_cases g : bE t n q.1 < n ∧ (97 ≤ t (bE t n q.1) ∧ t (bE t n q.1) ≤ 122)
              · rw [if_pos g, if_pos (Or.inr g)]
              · rw [if_neg g, if_neg (fun y => y.elim (fun w => by omega) g)]
            have on : am_W m_X5_readStory (am_ev am_prog (d + 3)) K 15 [some (.inr (.inl r)), some (.inl (V 4 a))] [] (mo b r (ms S) (am_up V2 9 (am_uz (V2 9) done.length (nw + 1))) W2) → True := fun _ => trivial
            have next : am_ev am_prog (d + 3) 256 [.inr (.inl r)] (mo b r (ms S) (am_up V2 9 (am_uz (V2 9) done.length (nw + 1))) W2) (am_aft (am_hand m_X5_readStory K (am_W m_X5_readStory (am_ev am_prog (d + 3)) K) 92) (am_W m_X5_readStory (am_ev am_prog (d + 3)) K) 92 [some (.inr (.inl r)), some (.inl (V 4 a))] []) := by
              rw [er] at G0 G1
              have vo : ∀ c, c ≠ 9 → (am_up V2 9 (am_uz (V2 9) done.length (nw + 1))) c = V2 c := fun c hc => am_up_ne hc
              have v9 : (am_up V2 9 (am_uz (V2 9) done.length (nw + 1))) 9 = am_uz (V2 9) done.length (nw + 1) := am_up_eq
              refine c_blanks (t := t) (n := n) (by omega) f45 hn.2 (by omega) ?_ (fun W3 hW3 g46 => am_an (w_readStory_93 ?_))
              · rw [vo 4 (by decide), f4]
                exact tp
              · rw [f46] at g46
                have len : ((cur ++ q.2).length : Int) ≤ 40 := by
                  rw [List.length_append]
                  have := wv.2.2.2.1
                  omega
                have k55 : W3 55 = done.length := (hW3 55 rfl).trans f55
                refine ih (bE t n q.1) (nw + 1) done (cur ++ q.2) _ W3 _ (by omega) (by omega) (bv.1.2 wv.1.2) g46 ((hW3 47 rfl).trans f47) k55 m4 ?_ (pvH_c (pvH_A pv (lnP_ch ch cl) pa) (vo 5 (by decide)) (vo 6 (by decide)) (vo 7 (by decide)) (by rw [vo 8 (by decide)])) (chP_ap cur q.2 0 nw (nw + 1) ch wv.2.1) len (by omega) (fun y => absurd y (by omega)) (fun _ => laP_ap cur q.2 wv.2.2.1) ?_ hV3 (fa_trans hW2' (fa_sub hW3 rfl)) ok3 G0 G1
                · rw [v9, am_uz_eq]
                · intro i hi
                  have qd := dh i hi
                  have ni : (i : Int) ≠ (done.length : Int) := by omega
                  refine ⟨?_, pvH_c (pvH_o qd.2.1 (lnP_ch qd.2.2.2.1 qd.2.2.2.2.2) (by omega) (by omega) pa) (vo 5 (by decide)) (vo 6 (by decide)) (vo 7 (by decide)) (by rw [vo 8 (by decide)]), qd.2.2⟩
                  rw [v9, am_uz_ne ni, f9]
                  exact qd.1
            rw [f55, f45, f46, f4, g9]
            refine ⟨by omega, fun y => next, fun y => ⟨by omega, fun y2 => next, fun y2 => ⟨by omega, fun y3 => next, fun y3 => ?_⟩⟩⟩
            have t32 : ¬ (t q.1 = 32) := fun w => y2 ((tp_c tp (by omega) y (by omega)).2 w)
            have t47 : ¬ (t q.1 = 47) := fun w => y3 ((tp_c tp (by omega) y (by omega)).2 w)
            have eb : bE t n q.1 = q.1 := bE_0 (fun w => t32 w.2)
            refine G0 q.1 _ _ ?_ hV3 (fa_up hW2' rfl) am_up_eq ok3
            rw [er, eb]
            unfold CR
            rw [if_neg (fun w => w.elim (fun w => by omega) wv.2.2.2.2)]
            show (if n ≤ q.1 then _ else if t q.1 = 47 ∧ done.length + 1 ≠ 5 then _ else _) = _
            rw [if_neg (by omega), if_neg (fun w => t47 w.1)]
        · unfold CR
          rw [if_pos (Or.inr ⟨z, z2'⟩), paR_0 (Or.inl c)]
          rfl
  have bv := bE_v (t := t) (n := n) (a := 0)
  have u8 : ∀ (A : Int → Int) (B : Int → Int), am_up (am_up V 8 A) 9 B 8 = A := fun A B => (am_up_ne (by decide)).trans am_up_eq
  have u9 : ∀ (A : Int → Int) (B : Int → Int), am_up (am_up V 8 A) 9 B 9 = B := fun A B => am_up_eq
  have uo : ∀ (A : Int → Int) (B : Int → Int) c, c ≠ 8 → c ≠ 9 → am_up (am_up V 8 A) 9 B c = V c := fun A B c h8 h9 => (am_up_ne h9).trans (am_up_ne h8)
  refine w_readStory_0 (c_blanks (t := t) (n := n) (by omega) ?_ hn.2 ?_ ?_ (fun W2 hW2 f46 => am_an ?_))
  · rw [am_up_ne (by decide), h45]
  · rw [am_up_ne (by decide), h46]
    omega
  · rw [uo _ _ 4 (by decide) (by decide)]
    exact tp
  · rw [am_up_ne (by decide), h46] at f46
    rw [CR_0] at H0 H1
    have z : ((0 : Nat) : Int) = 0 := rfl
    refine main _ (bE t n 0) 0 [] [] _ W2 none (Nat.le_refl _) (by omega) (bv.1.2 hn.1) f46 ?_ ?_ (by decide) ?_ ⟨?_, fun k hk => absurd hk (Nat.not_lt_zero _)⟩ rfl (by show (0 : Int) ≤ 40; omega) (by omega) (fun _ => rfl) (fun y => absurd rfl y) (fun i hi => absurd hi (Nat.not_lt_zero _)) (fa_up (fa_up fa_refl rfl) rfl) (fa_trans (fa_up fa_refl rfl) (fa_sub hW2 rfl)) ok H0 H1
    · rw [hW2 47 rfl, am_up_ne (by decide), h47]
    · rw [hW2 55 rfl, am_up_eq]
      rfl
    · rw [u9]
      exact am_uz_eq
    · rw [u8]
      exact am_uz_eq
end
