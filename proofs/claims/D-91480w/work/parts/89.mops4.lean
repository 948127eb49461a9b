set_option maxRecDepth 100000
section
variable {K : am_K} {b : am_H} {r : Nat} {S : am_G} {V : Nat → Int → Int} {W : Nat → Int}
theorem crN_bd {k : Int} (hG : okG S) (hk : 0 ≤ k ∧ k ≤ S 0 0 4) : 0 ≤ sg (fun s => am_b (S 4 s 7 = 1)) 0 k.toNat ∧ sg (fun s => am_b (S 4 s 7 = 1)) 0 k.toNat ≤ 300 := by
  have c4 := hG.1
  have bd := sg_bd (c := 1) (f := fun s => am_b (S 4 s 7 = 1)) k.toNat 0 (fun j _ _ => by
    show 0 ≤ am_b (S 4 j 7 = 1) ∧ am_b (S 4 j 7 = 1) ≤ 1
    unfold am_b
    split <;> omega)
  omega
theorem M_count {w : Int} {D : Nat} (hD : 90 ≤ D) (hC : okC S) (hG : okG S) (hM : okM S) (hY : okY S) (H : MR b r K S V W 0 (cuR S w)) : am_ev am_prog D 40 [.inr (.inl r), .inl w] (mo b r (ms S) V W) K := by
  have c4 := hG.1
  have sb := sty_bd (mi := S 0 0 0) hY
  obtain ⟨d, rfl⟩ : ∃ d, D = d + 4 := ⟨D - 4, by omega⟩
  refine am_en p_X5_count rfl rfl ?_
  refine w_count_0 (c_styleOf (by omega) hY (am_av ?_))
  have go : ∀ a, a = cuR S w → K (.inl (some (.inl (a)))) (mo b r (ms S) V (am_up W 38 0)) := fun a q => MR_up (MR_e H q.symm)
  have hj : ∀ k, 0 ≤ k → k < 4 → 0 ≤ S 5 k 29 ∧ S 5 k 29 ≤ 30 := fun k k1 k2 => (hM k k1 k2).2.2.2.1
  have main : ∀ o2, 5 ≤ w ∧ w ≤ 9 → ∀ k, 0 ≤ k → k ≤ S 0 0 4 → ∀ o5 o6, am_W m_X5_count (am_ev am_prog (d + 3)) K 105 [some (.inr (.inl r)), some (.inl (w)), some (.inl (o2)), some (.inl (sg (fun s => if w = 8 then am_b (S 4 s 7 = 1) else if w = 9 then lyf S 0 1 s else lyf S (w - 5) 0 s) 0 k.toNat)), some (.inl (k)), o5, o6] [] (mo b r (ms S) V (am_up W 38 0)) := by
    intro o2 hw
    have f01 : ∀ s, 0 ≤ (if w = 8 then am_b (S 4 s 7 = 1) else if w = 9 then lyf S 0 1 s else lyf S (w - 5) 0 s) ∧ (if w = 8 then am_b (S 4 s 7 = 1) else if w = 9 then lyf S 0 1 s else lyf S (w - 5) 0 s) ≤ 1 := fun s => by
      have l1 := lyf_01 (S := S) (st := 0) (w := 1) (s := s)
      have l2 := lyf_01 (S := S) (st := w - 5) (w := 0) (s := s)
      split
      · unfold am_b
        split <;> omega
      · split <;> omega
    refine lp_z ?_ ?_
    · intro k k1 k2 hL o5 o6
      have bd := sg_bd (c := 1) (f := fun s => if w = 8 then am_b (S 4 s 7 = 1) else if w = 9 then lyf S 0 1 s else lyf S (w - 5) 0 s) k.toNat 0 (fun j _ _ => f01 j)
      have fk := f01 k
      rw [sg_s k1] at hL
      generalize hX : sg (fun s => if w = 8 then am_b (S 4 s 7 = 1) else if w = 9 then lyf S 0 1 s else lyf S (w - 5) 0 s) 0 k.toNat = X at *
      refine w_count_105 ⟨fun z => absurd z (by omega), fun _ => ⟨by omega, fun c8 => ⟨fun c9 => ⟨by omega, fun d => ⟨by omega, ?_⟩, fun d => ?_⟩, fun c9 => ?_⟩, fun c8 => ⟨by omega, ?_⟩⟩⟩
      · have e9 : w = 9 := by omega
        have ef : (if w = 8 then am_b (S 4 k 7 = 1) else if w = 9 then lyf S 0 1 k else lyf S (w - 5) 0 k) = 0 := by
          rw [if_neg c9, if_pos e9]
          exact if_neg d
        rw [ef] at hL
        exact hL _ _
      · have e9 : w = 9 := by omega
        have ef : (if w = 8 then am_b (S 4 k 7 = 1) else if w = 9 then lyf S 0 1 k else lyf S (w - 5) 0 k) = wb S k := by
          rw [if_neg c9, if_pos e9]
          exact (if_pos d).trans (if_neg (by decide))
        rw [ef] at hL fk
        have c9' := (hG.2 k k1 k2).2.2.2
        refine c_isWrong (by omega) (by omega) (by omega) (fun v => am_av (w_count_156 ?_)) (fun v => am_av (w_count_156 ?_))
        · rw [wb_t v] at hL
          rw [am_bt (by decide)]
          exact ⟨by omega, hL _ _⟩
        · rw [wb_f v] at hL
          rw [am_bf (by decide)]
          exact ⟨by omega, hL _ _⟩
      · have ef : (if w = 8 then am_b (S 4 k 7 = 1) else if w = 9 then lyf S 0 1 k else lyf S (w - 5) 0 k) = am_b (S 4 k 7 = 1) := if_pos c9
        rw [ef] at hL fk
        exact ⟨by omega, by omega, hL _ _⟩
      · have ef : (if w = 8 then am_b (S 4 k 7 = 1) else if w = 9 then lyf S 0 1 k else lyf S (w - 5) 0 k) = am_b (S 4 k 4 = w - 5) := by
          rw [if_neg (by omega), if_neg (by omega)]
          rfl
        rw [ef] at hL fk
        exact ⟨by omega, hL _ _⟩
    · intro o5 o6
      refine w_count_105 ⟨fun _ => go _ ?_, fun z => absurd z (by omega)⟩
      unfold cuR
      by_cases w8 : w = 8
      · rw [if_neg (by omega), if_pos w8]
        unfold crN
        exact sg_c _ (fun k _ _ => if_pos w8)
      · by_cases w9 : w = 9
        · rw [if_neg (by omega), if_neg (by omega), if_neg (by omega), if_pos w9]
          unfold lyN
          exact sg_c _ (fun k _ _ => (if_neg w8).trans (if_pos w9))
        · rw [if_neg (by omega), if_neg (by omega), if_neg (by omega), if_neg (by omega), if_pos (by omega)]
          unfold lyN
          exact sg_c _ (fun k _ _ => (if_neg w8).trans (if_neg w9))
  have mk : ∀ (p0 : Int), (∀ g0 : adr (sty S (S 0 0 0)) ≠ -1, adr (sty S (S 0 0 0)) = 320962 + 562 * sty S (S 0 0 0)) := fun _ g0 => by
    by_cases c : sty S (S 0 0 0) = -1
    · rw [c, adr_n] at g0
      exact absurd rfl g0
    · exact adr_p (by omega)
  refine w_count_9 (p0 := sty S (S 0 0 0)) ?_
  refine ⟨fun g0 => ⟨fun g1 => ⟨fun g2 => ⟨fun g3 => ⟨fun g4 => ⟨fun g10 => ⟨fun g11 => ⟨fun g12 => ⟨fun g13 => ⟨fun g14 => ⟨fun g59 => main _ g59 0 (by omega) c4.1 _ _, fun g59 => go _ ?_⟩, fun g14 => go _ (by rw [g14]; rfl)⟩, fun g13 => go _ (by rw [g13]; rfl)⟩, fun g12 => c_jobs (by omega) hC.2.2.1 hj (am_av (w_count_77 (go _ (by rw [g12]; rfl))))⟩, fun g11 => go _ (by rw [g11]; rfl)⟩, fun g10 => go _ (by rw [g10]; rfl)⟩, fun g4 => go _ (by rw [g4]; rfl)⟩, fun g3 => go _ (by rw [g3]; rfl)⟩, fun g2 => ⟨fun y => ⟨?_, go _ ?_⟩, fun y => go _ ?_⟩⟩, fun g1 => go _ (by rw [g1]; rfl)⟩, fun g0 => go _ (by rw [g0]; rfl)⟩
  · unfold cuR
    rw [if_neg (by omega), if_neg (by omega), if_neg (by omega), if_neg (by omega), if_neg (by omega), if_neg (by omega), if_neg (by omega), if_neg (by omega), if_neg (by omega), if_neg (by omega), if_neg (by omega), if_neg (by omega), if_neg (by omega)]
  · have e := mk 0 y
    have y2 := hY.1
    have s1 : sty S (S 0 0 0) ≠ -1 := fun z => by rw [z, adr_n] at y; exact y rfl
    refine ⟨by omega, e, by omega⟩
  · have s1 : sty S (S 0 0 0) ≠ -1 := fun z => by rw [z, adr_n] at y; exact y rfl
    rw [g2]
    show _ = if sty S (S 0 0 0) = -1 then 0 else S 6 (sty S (S 0 0 0)) 1
    rw [if_neg s1]
  · have s1 : sty S (S 0 0 0) = -1 := by
      by_cases c : sty S (S 0 0 0) = -1
      · exact c
      · rw [adr_p (by omega)] at y
        omega
    rw [g2]
    show 0 = if sty S (S 0 0 0) = -1 then 0 else S 6 (sty S (S 0 0 0)) 1
    rw [if_pos s1]
theorem M_ends {p l : Int} {D : Nat} (hD : 90 ≤ D) (hC : okC S) (hi : -2147483648 ≤ p ∧ p ≤ 2147483647) (hF : okF S) (hA : okA S) (hY : okY S) (hW : okWs S) (H0 : ¬ isP S p → MR b r K S V W 1 (0)) (H1 : isP S p → MR b r K S V W 0 (enR S p l)) : am_ev am_prog D 78 [.inr (.inl r), .inl p, .inl l] (mo b r (ms S) V W) K := by
  have c1 := hC.2.1
  obtain ⟨d, rfl⟩ : ∃ d, D = d + 4 := ⟨D - 4, by omega⟩
  refine am_en p_X5_ends rfl rfl ?_
  refine w_ends_0 ⟨by omega, fun ip => ?_, fun c => MR_up (H0 c)⟩
  have pb := isP_bd hC hF ip
  have ap := hA p ip
  have p1 := ap.1.1
  have a3 := ap.2.2.2.2.1
  have a4 := ap.2.2.2.2.2.2.2
  have okw := hW _ pb.2.2.1.1 pb.2.2.1.2
  have tl := tells_bd (p := p) (mi := S 0 0 0) hY
  have HH := H1 ip
  refine ⟨by omega, by omega, fun s3 => ?_, fun s3 => ⟨by omega, fun z => MR_up (MR_e HH ((if_neg (by omega)).trans (if_neg (by omega)))), fun z => ⟨by omega, MR_up (MR_e HH ((if_neg (by omega)).trans (if_pos (by omega))))⟩⟩⟩
  have s0 : S 3 p 3 = 0 := by omega
  refine c_work (by omega) hY pb.1 pb.2.2.1 ap.1 okw (fun V' W' hV hWf w63 w64 w65 w66 w67 w68 td => am_an (w_ends_55 ?_))
  have t0 := td 0 (by omega) (by omega)
  have fin : ∀ a, a = enR S p l → K (.inl (some (.inl (a)))) (mo b r (ms S) V' W') := fun a q => MR_f (MR_e HH q.symm) hV hWf rfl rfl rfl rfl rfl rfl
  refine ⟨fun z => fin _ ?_, fun z => ?_⟩
  · rw [t0.1] at z
    exact ((if_pos s0).trans (if_pos z)).symm
  · rw [t0.1] at z
    have nk := nx_ok ap.1 okw tl.1 tl.2.1 tl.2.2.2.1 (mo := moS S p (S 0 0 0)) (n := S 3 p 1) (by omega) (a := 0) (by omega) (by omega) z
    have bT := tb_bd ap.1 okw (mo := moS S p (S 0 0 0)) tl.1 tl.2.1 tl.2.2.2.1 (n := S 3 p 1) (by omega) (S 3 p 1).toNat (by omega) 0 (by omega) (by omega)
    have et : tb (S 3 p) (S 1 (S 2 0 (p / 5))) (meS S p (S 0 0 0)) (leS S p (S 0 0 0)) (moS S p (S 0 0 0)) (coS S p (S 0 0 0)) (S 3 p 1) (S 3 p 1).toNat = (tbS S p (S 0 0 0)) := rfl
    rw [et] at nk bT
    have b21 : 0 ≤ ((tbS S p (S 0 0 0)) 0).2.1 ∧ ((tbS S p (S 0 0 0)) 0).2.1 ≤ 40 := by
      rcases bT with e | e
      · exact absurd e z
      · have := e.2.1
        omega
    rw [(t0.2 z).1]
    refine ⟨by omega, fun g => ?_, fun g => fin _ ((if_pos s0).trans ((if_neg z).trans (if_neg (by omega)))).symm⟩
    have main : ∀ j, 0 ≤ j → j ≤ l → am_W m_X5_ends (am_ev am_prog (d + 3)) K 77 [some (.inr (.inl r)), some (.inl (p)), some (.inl (l)), some (.inl (130 + 645 * p)), some (.inl (nx (tbS S p (S 0 0 0)) j.toNat 0)), some (.inl (j))] [] (mo b r (ms S) V' W') := by
      refine lp_z ?_ ?_
      · intro j j1 j2 hL
        have k1 := nk j.toNat (by omega)
        have k2 := k1.2.2.2 (by omega)
        have e1 : (j + 1).toNat = j.toNat + 1 := by omega
        have v16 := ((td (nx (tbS S p (S 0 0 0)) j.toNat 0) (by omega) (by omega)).2 k1.2.1).2 k2
        rw [e1, nx_last, ← v16] at hL
        exact w_ends_77 ⟨fun z => absurd z (by omega), fun _ => ⟨by omega, hL⟩⟩
      · have k1 := nk l.toNat (by omega)
        have k2 := k1.2.2.2 (by omega)
        have k3 := nk (l.toNat + 1) (by omega)
        have v16 := ((td (nx (tbS S p (S 0 0 0)) l.toNat 0) (by omega) (by omega)).2 k1.2.1).2 k2
        rw [nx_last] at k3
        refine w_ends_77 ⟨fun _ => ?_, fun z => absurd z (by omega)⟩
        rw [v16]
        refine ⟨⟨by omega, by omega⟩, fin _ ?_⟩
        rw [← nx_last]
        exact ((if_pos s0).trans ((if_neg z).trans (if_pos (by omega)))).symm
    exact main 0 (by omega) g.1
end
