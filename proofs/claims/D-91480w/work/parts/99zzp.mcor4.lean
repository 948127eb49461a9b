set_option maxRecDepth 100000
theorem onR_v {t : Int → Int} {n c0 : Int} (hc : c0 ≤ 40) {l : List am_Pz} (h : onR t n c0 = .inr l) : chP t 0 l 1 ∧ laP l ∧ c0 + l.length ≤ 40 ∧ 1 ≤ l.length := by
  by_cases c : bE t n 0 < n ∧ (97 ≤ t (bE t n 0) ∧ t (bE t n 0) ≤ 122)
  · cases r : wdR t n 0 (bE t n 0) c0 with
    | inl x =>
      rw [onR_l c r] at h
      cases h
    | inr q =>
      rw [onR_r c r] at h
      have i := wdR_v (n - bE t n 0).toNat (bE t n 0) c0 (Nat.le_refl _) c hc q r
      by_cases g : n ≤ bE t n q.1
      · rw [if_pos g] at h
        have e : q.2 = l := by
          cases h
          rfl
        rw [e] at i
        exact ⟨i.2.1, i.2.2.1, i.2.2.2.1, (laP_g l i.2.2.1).2⟩
      · rw [if_neg g] at h
        cases h
  · rw [onR_0 c] at h
    cases h
section
variable {K : am_K} {b : am_H} {r : Nat} {S : am_G} {V : Nat → Int → Int} {W : Nat → Int}
theorem M_correct {t : Int → Int} {p w k : Int} {D : Nat} (hD : 90 ≤ D) (hC : okC S) (hF : okF S) (hA : okA S) (hY : okY S) (hY1 : okY1 S) (hW : okWs S) (hM : okM S) (hG : okG S) (hi : -2147483648 ≤ p ∧ p ≤ 2147483647) (ok : okVs V) (h44 : 0 ≤ W 44 ∧ W 44 ≤ 400) (tp : tpR t (V 4) (W 44)) (H1 : ¬ (isP S p ∧ (0 ≤ k ∧ k < S 0 0 3) ∧ (0 ≤ w ∧ w < S 3 p 0)) → MF b r K S V W 1 (0) 0 (W 47)) (H2 : isP S p ∧ (0 ≤ k ∧ k < S 0 0 3) ∧ (0 ≤ w ∧ w < S 3 p 0) → ∀ x, onR t (W 44) (S 3 p 1 - (wfR (S 3 p) w (S 3 p 1).toNat).2) = .inl x → MF b r K S V W 2 (0) 0 (x)) (H3 : isP S p ∧ (0 ≤ k ∧ k < S 0 0 3) ∧ (0 ≤ w ∧ w < S 3 p 0) → ∀ l, onR t (W 44) (S 3 p 1 - (wfR (S 3 p) w (S 3 p 1).toNat).2) = .inr l → (S 3 p) 3 ≠ 0 → hsJ S p → MF b r K S V W 3 (0) 0 (-1)) (H4 : isP S p ∧ (0 ≤ k ∧ k < S 0 0 3) ∧ (0 ≤ w ∧ w < S 3 p 0) → ∀ l, onR t (W 44) (S 3 p 1 - (wfR (S 3 p) w (S 3 p 1).toNat).2) = .inr l → ¬ ((S 3 p) 3 ≠ 0 ∧ hsJ S p) → S 5 k 29 = 30 → MF b r K S V W 4 (0) 0 (-1)) (H5 : isP S p ∧ (0 ≤ k ∧ k < S 0 0 3) ∧ (0 ≤ w ∧ w < S 3 p 0) → ∀ l, onR t (W 44) (S 3 p 1 - (wfR (S 3 p) w (S 3 p 1).toNat).2) = .inr l → S 5 k 29 ≠ 30 → (S 3 p) 3 = 0 → ∀ row, chW t (S 3 p) w l row → MF b r K (setR S p row) V W 0 (0) 0 (-1)) (H6 : isP S p ∧ (0 ≤ k ∧ k < S 0 0 3) ∧ (0 ≤ w ∧ w < S 3 p 0) → ∀ l, onR t (W 44) (S 3 p 1 - (wfR (S 3 p) w (S 3 p 1).toNat).2) = .inr l → ¬ hsJ S p → S 5 k 29 ≠ 30 → (S 3 p) 3 ≠ 0 → ∀ row, chW t (S 3 p) w l row → ((cT S p row (cA S p w)).1) = -1 → MF b r K S V W 0 (-1) 0 (-1)) (H7 : isP S p ∧ (0 ≤ k ∧ k < S 0 0 3) ∧ (0 ≤ w ∧ w < S 3 p 0) → ∀ l, onR t (W 44) (S 3 p 1 - (wfR (S 3 p) w (S 3 p 1).toNat).2) = .inr l → ¬ hsJ S p → S 5 k 29 ≠ 30 → (S 3 p) 3 ≠ 0 → ∀ row, chW t (S 3 p) w l row → ((cT S p row (cA S p w)).1) ≠ -1 → MF b r K (cF S p w k row) V W 0 (cC S p w row) 0 (-1)) : am_ev am_prog D 90 [.inr (.inl r), .inl p, .inl w, .inl k] (mo b r (ms S) V W) K := by
  have c1 := hC.2.1
  have c3 := hC.2.2.1
  obtain ⟨d, rfl⟩ : ∃ d, D = d + 4 := ⟨D - 4, by omega⟩
  refine am_en p_X5_correct rfl rfl ?_
  refine w_correct_0 (c_use (by omega) (fun W1 hW1 k44 k45 k46 => am_an (w_correct_2 ?_)))
  have bad : ¬ (isP S p ∧ (0 ≤ k ∧ k < S 0 0 3) ∧ (0 ≤ w ∧ w < S 3 p 0)) → K (.inl (some (.inl (0)))) (mo b r (ms S) V (am_up W1 38 1)) := fun c => H1 c V _ ⟨rfl, rfl, ok, (am_up_ne (by decide)).trans (hW1 42 rfl), (am_up_ne (by decide)).trans k44, (am_up_ne (by decide)).trans (hW1 47 rfl)⟩ am_up_eq
  refine ⟨by omega, fun c => bad (fun z => c z.1), fun ip => ?_⟩
  have pb := isP_bd hC hF ip
  have ap := hA p ip
  have p1 := ap.1.1
  have w84 := (ap.1.2.1 ((S 3 p) 1 - 1) (by omega) (by omega)).2
  have e84 : 85 + ((S 3 p) 1 - 1) = 84 + (S 3 p) 1 := by omega
  rw [e84] at w84
  have v0 := ap.2.2.1
  refine ⟨fun ck => ⟨by omega, by omega, fun cw => ⟨by omega, ?_⟩, fun c => bad (fun z => c (by omega))⟩, fun c => bad (fun z => c z.2.1)⟩
  have OK : isP S p ∧ (0 ≤ k ∧ k < S 0 0 3) ∧ (0 ≤ w ∧ w < S 3 p 0) := ⟨ip, ck, by omega⟩
  have wf := wf_v ap.2.1 p1.1 v0 OK.2.2
  have wf1 := wf.1
  have H2' := H2 OK
  have H3' := H3 OK
  have H4' := H4 OK
  have H5' := H5 OK
  have H6' := H6 OK
  have H7' := H7 OK
  have loop : ∀ j, 0 ≤ j → j ≤ (S 3 p) 1 → ∀ o8 o9 o10 o11 o12 o13, am_W m_X5_correct (am_ev am_prog (d + 3)) K 44 [some (.inr (.inl r)), some (.inl (p)), some (.inl (w)), some (.inl (k)), some (.inl (130 + 645 * p)), some (.inl ((wfR (S 3 p) w j.toNat).1)), some (.inl ((wfR (S 3 p) w j.toNat).2)), some (.inl (j)), o8, o9, o10, o11, o12, o13] [] (mo b r (ms S) V (am_up W1 38 0)) := by
    refine lp_z ?_ ?_
    · intro j j0 j1 hL o8 o9 o10 o11 o12 o13
      have ej : (j + 1).toNat = j.toNat + 1 := by omega
      have ejj : ((j.toNat : Nat) : Int) = j := by omega
      have es : wfR (S 3 p) w (j + 1).toNat = if (S 3 p) (85 + j) = w then (if (wfR (S 3 p) w j.toNat).1 = -1 then j else (wfR (S 3 p) w j.toNat).1, (wfR (S 3 p) w j.toNat).2 + 1) else wfR (S 3 p) w j.toNat := by
        rw [ej]
        show (if (S 3 p) (85 + ((j.toNat : Nat) : Int)) = w then (if (wfR (S 3 p) w j.toNat).1 = -1 then ((j.toNat : Nat) : Int) else (wfR (S 3 p) w j.toNat).1, (wfR (S 3 p) w j.toNat).2 + 1) else wfR (S 3 p) w j.toNat) = _
        rw [ejj]
      have bo : -1 ≤ (wfR (S 3 p) w j.toNat).2 ∧ (wfR (S 3 p) w j.toNat).2 ≤ 40 := by
        rcases wf_i ap.2.1 OK.2.2.1 j.toNat (by omega) with ⟨i1, _⟩ | ⟨i1, i2, i3, _⟩
        · rw [i1]
          show (-1 : Int) ≤ 0 ∧ (0 : Int) ≤ 40
          omega
        · omega
      rw [es] at hL
      refine w_correct_44 ⟨by omega, fun z => absurd z (by omega), fun _ => ⟨by omega, fun e => ?_, fun e => ⟨by omega, ?_⟩⟩⟩
      · rw [if_pos e] at hL
        refine ⟨fun e2 => ⟨by omega, by omega, ?_⟩, fun e2 => ⟨by omega, by omega, ?_⟩⟩
        · rw [if_neg e2] at hL
          exact hL _ _ _ _ _ _
        · rw [if_pos e2] at hL
          exact hL _ _ _ _ _ _
      · rw [if_neg e] at hL
        exact hL _ _ _ _ _ _
    · intro o8 o9 o10 o11 o12 o13
      refine w_correct_44 ⟨by omega, fun _ => ⟨by omega, ?_⟩, fun z => absurd z (by omega)⟩
      have w45 : am_up (am_up W1 38 0) 47 (-1) 45 = W 44 := (am_up_ne (by decide)).trans ((am_up_ne (by decide)).trans k45)
      have w46 : am_up (am_up W1 38 0) 47 (-1) 46 = 0 := (am_up_ne (by decide)).trans ((am_up_ne (by decide)).trans k46)
      have w38 : am_up (am_up W1 38 0) 47 (-1) 38 = 0 := (am_up_ne (by decide)).trans am_up_eq
      have w47 : am_up (am_up W1 38 0) 47 (-1) 47 = -1 := am_up_eq
      have w42 : am_up (am_up W1 38 0) 47 (-1) 42 = W 42 := (am_up_ne (by decide)).trans ((am_up_ne (by decide)).trans (hW1 42 rfl))
      have w44 : am_up (am_up W1 38 0) 47 (-1) 44 = 0 := (am_up_ne (by decide)).trans ((am_up_ne (by decide)).trans k44)
      generalize am_up (am_up W1 38 0) 47 (-1) = W3 at *
      refine c_readOne (t := t) (n := W 44) (by omega) w45 h44 w46 tp (by omega) ok (fun x V' W' hx fV fW g47 okV => am_av (w_correct_86 ⟨fun z => absurd rfl z, fun _ => ?_⟩)) (fun l V' W' hl fV fW okV g8 rd => am_av (w_correct_86 ⟨fun _ => ?_, fun z => absurd z (by decide)⟩))
      · exact H2' x hx V' _ ⟨fV 2 rfl, fV 4 rfl, okV, (am_up_ne (by decide)).trans ((fW 42 rfl).trans w42), (am_up_ne (by decide)).trans ((fW 44 rfl).trans w44), (am_up_ne (by decide)).trans g47⟩ am_up_eq
      · have g38 : W' 38 = 0 := (fW 38 rfl).trans w38
        have g42 : W' 42 = W 42 := (fW 42 rfl).trans w42
        have g44 : W' 44 = 0 := (fW 44 rfl).trans w44
        have g47 : W' 47 = -1 := (fW 47 rfl).trans w47
        have ov := onR_v (by omega) hl
        have pf0 : ∀ {W2 : Nat → Int}, (∀ c, c ≠ 38 → W2 c = W' c) → pF V W V' W2 0 (-1) := fun e => ⟨fV 2 rfl, fV 4 rfl, okV, (e 42 (by decide)).trans g42, (e 44 (by decide)).trans g44, (e 47 (by decide)).trans g47⟩
        have fin : ∀ {S' : am_G} {a : Int}, MF b r K S' V W 0 (a) 0 (-1) → ∀ V2 W2, fa [11, 12, 13, 14, 15, 16, 17, 18, 20, 21, 22, 23, 24, 25, 26] V' V2 → fa [62, 63, 64, 65, 66, 67, 68, 73] W' W2 → K (.inl (some (.inl (a)))) (mo b r (ms S') V2 W2) := fun HM V2 W2 f2 fw2 => by
          refine HM V2 W2 ⟨(f2 2 rfl).trans (fV 2 rfl), (f2 4 rfl).trans (fV 4 rfl), ?_, (fw2 42 rfl).trans g42, (fw2 44 rfl).trans g44, (fw2 47 rfl).trans g47⟩ ((fw2 38 rfl).trans g38)
          unfold okVs
          rw [f2 5 rfl, f2 6 rfl, f2 7 rfl]
          exact okV
        have a3 := ap.2.2.2.2.1
        have t4 : ¬ ((S 3 p) 3 ≠ 0 ∧ hsJ S p) → S 5 k 29 = 30 → K (.inl (some (.inl (0)))) (mo b r (ms S) V' (am_up W' 38 4)) := fun n e => H4' l hl n e V' _ (pf0 (fun c hc => am_up_ne hc)) am_up_eq
        have t6 : ¬ ((S 3 p) 3 ≠ 0 ∧ hsJ S p) → S 5 k 29 ≠ 30 → (S 3 p) 3 ≠ 0 → ∀ o8 o9 o10 o11 o12 o13, am_W m_X5_correct (am_ev am_prog (d + 3)) K 141 [some (.inr (.inl r)), some (.inl (p)), some (.inl (w)), some (.inl (k)), some (.inl (130 + 645 * p)), some (.inl ((wfR (S 3 p) w (S 3 p 1).toNat).1)), some (.inl ((wfR (S 3 p) w (S 3 p 1).toNat).2)), some (.inl (0)), o8, o9, o10, o11, o12, o13] [] (mo b r (ms S) V' W') := fun n e s => m_opens (t := t) (l := l) (by omega) hC hF hA hY hY1 hW hM hG ip ck OK.2.2 (by omega) e g8 ov.2.2.2 (by have := ov.2.2.1; omega) okV rd (fun row cw e6 V2 W2 f2 fw2 => fin (H6' l hl (fun z => n ⟨s, z⟩) e s row cw e6) V2 W2 f2 fw2) (fun row cw e6 V2 W2 f2 fw2 => fin (H7' l hl (fun z => n ⟨s, z⟩) e s row cw e6) V2 W2 f2 fw2)
        have t5 : S 5 k 29 ≠ 30 → (S 3 p) 3 = 0 → ∀ o8 o9 o10 o11 o12 o13, am_ev am_prog (d + 3) 191 [.inr (.inl r), .inl (130 + 645 * p), .inl w, .inl (wfR (S 3 p) w (S 3 p 1).toNat).1, .inl (wfR (S 3 p) w (S 3 p 1).toNat).2] (mo b r (ms S) V' W') (am_aft (am_hand m_X5_correct K (am_W m_X5_correct (am_ev am_prog (d + 3)) K) 136) (am_W m_X5_correct (am_ev am_prog (d + 3)) K) 136 [some (.inr (.inl r)), some (.inl (p)), some (.inl (w)), some (.inl (k)), some (.inl (130 + 645 * p)), some (.inl ((wfR (S 3 p) w (S 3 p 1).toNat).1)), some (.inl ((wfR (S 3 p) w (S 3 p 1).toNat).2)), some (.inl ((S 3 p) 1)), o8, o9, o10, o11, o12, o13] []) := fun e s o8 o9 o10 o11 o12 o13 => by
          refine c_changes (d0 := l.length) (by omega) pb.1 g8 (by omega) p1.2 (by have := ov.2.2.1; omega) (fun V2 row f2 cg => am_an (w_correct_137 ?_))
          have cw : chW t (S 3 p) w l row := ⟨V' 6, V' 7, cg, rd, fun k a b => (okV.1 k a (by omega)).2, fun i a b => okV.2 i a (by omega)⟩
          exact fin (H5' l hl e s row cw) V2 W' (fa_sub f2 rfl) fa_refl
        refine ⟨by omega, fun s => ⟨by omega, by omega, fun e => ⟨fun _ => ⟨by omega, fun s2 => absurd (by omega) s2, fun s2 => t5 e s2 _ _ _ _ _ _⟩, fun z => absurd z (by omega)⟩, fun e => t4 (fun z => z.1 (by omega)) e⟩, fun s => ?_⟩
        refine c_hasJob (by omega) c3 (fun k a b => (hM k a b).2.2.2.1) (fun hj => am_av (w_correct_102 ⟨fun z => absurd z (by decide), fun _ => ?_⟩)) (fun hj => am_av (w_correct_102 ⟨fun _ => ⟨by omega, by omega, fun e => ⟨fun _ => ⟨by omega, fun s2 => t6 (fun z => hj z.2) e s2 _ _ _ _ _ _, fun s2 => absurd s2 (by omega)⟩, fun z => absurd z (by omega)⟩, fun e => t4 (fun z => hj z.2) e⟩, fun z => absurd rfl z⟩))
        exact H3' l hl (by omega) hj V' _ (pf0 (fun c hc => am_up_ne hc)) am_up_eq
  exact loop 0 (by omega) (by omega) _ _ _ _ _ _
end
