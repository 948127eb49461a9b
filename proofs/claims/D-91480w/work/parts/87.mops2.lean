set_option maxRecDepth 100000
/-- slugs have parts, also those that are not yet -/
def ok0 (S : am_G) : Prop := ∀ s, 0 ≤ s → s < 300 → 0 ≤ S 4 s 0 ∧ S 4 s 0 < 100
section
variable {K : am_K} {b : am_H} {r : Nat} {S : am_G} {V : Nat → Int → Int} {W : Nat → Int}
/-- whether a line lies right, of the state as it is -/
theorem c_rightS {p l : Int} {D : Nat} (hD : 5 ≤ D) (hC : okC S) (hF : okF S) (hA : okA S) (hG : okG S) (h0 : ok0 S) (ip : isP S p) (c3 : S 3 p 3 ≠ 0) (hl : 0 ≤ l ∧ l < S 3 p 4) (H : ∀ V' W', fa [17, 18] V V' → fa [73] W W' → (rgt S p l → K (.inl (some (.inl (1)))) (mo b r (ms S) V' W')) ∧ (¬ rgt S p l → K (.inl (some (.inl (0)))) (mo b r (ms S) V' W'))) : am_ev am_prog D 153 [.inr (.inl r), .inl p, .inl l] (mo b r (ms S) V W) K := by
  have ap := hA p ip
  have a4 := ap.2.2.2.2.2.2.2
  have al := (ap.2.2.2.2.2.2.1 (by have := ap.2.2.2.2.1; omega)).2.2 l hl.1 hl.2
  have p1 := ap.1.1
  have g4 := hG.1
  exact c_isRight hD (isP_bd hC hF ip).1 ap.1 (by omega) a4 ⟨al.1.1, al.1.2.1⟩ (by omega) al.2.1 (by omega) h0 H
theorem M_judge {p : Int} {D : Nat} (hD : 90 ≤ D) (hC : okC S) (hi : -2147483648 ≤ p ∧ p ≤ 2147483647) (hF : okF S) (hA : okA S) (hG : okG S) (h0 : ok0 S) (H0 : ¬ isP S p → MR b r K S V W 1 (0)) (H2 : isP S p → S 3 p 3 = 0 → MR b r K S V W 2 (0)) (H1 : isP S p → S 3 p 3 ≠ 0 → ∀ a, jdR S p a → MR b r K S V W 0 (a)) : am_ev am_prog D 49 [.inr (.inl r), .inl p] (mo b r (ms S) V W) K := by
  have c1 := hC.2.1
  obtain ⟨d, rfl⟩ : ∃ d, D = d + 4 := ⟨D - 4, by omega⟩
  refine am_en p_X5_judge rfl rfl ?_
  refine w_judge_0 ⟨by omega, fun ip => ?_, fun c => MR_up (H0 c)⟩
  have pb := isP_bd hC hF ip
  refine ⟨by omega, by omega, fun c3 => ?_, fun c3 => MR_up (H2 ip c3)⟩
  have a4 := (hA p ip).2.2.2.2.2.2.2
  have fin : ∀ a V' W', jdR S p a → fa [17, 18] V V' → fa [73] (am_up W 38 0) W' → K (.inl (some (.inl (a)))) (mo b r (ms S) V' W') := fun a V' W' j hV hW => MR_f (H1 ip c3 a j) hV hW rfl rfl rfl rfl rfl rfl
  have main : ∀ l, 0 ≤ l → l ≤ S 3 p 4 → (∀ j, 0 ≤ j → j < l → rgt S p j) → ∀ V' W', fa [17, 18] V V' → fa [73] (am_up W 38 0) W' → am_W m_X5_judge (am_ev am_prog (d + 3)) K 26 [some (.inr (.inl r)), some (.inl (p)), some (.inl (l))] [] (mo b r (ms S) V' W') := by
    refine lp_z ?_ ?_
    · intro l l1 l2 hL hl V' W' hV hW
      refine w_judge_26 ⟨by omega, by omega, fun z => absurd z (by omega), fun _ => c_rightS (by omega) hC hF hA hG h0 ip c3 (by omega) (fun V2 W2 hV2 hW2 => ⟨fun v => am_av (w_judge_39 ⟨fun _ => ⟨by omega, hL (fun j j1 j2 => ?_) V2 W2 (fa_trans hV hV2) (fa_trans hW hW2)⟩, fun z => absurd z (by decide)⟩), fun v => am_av (w_judge_39 ⟨fun z => absurd rfl z, fun _ => fin l V2 W2 (Or.inr ⟨by omega, v, hl⟩) (fa_trans hV hV2) (fa_trans hW hW2)⟩)⟩)⟩
      by_cases e : j = l
      · rw [e]
        exact v
      · exact hl j j1 (by omega)
    · intro hl V' W' hV hW
      exact w_judge_26 ⟨by omega, by omega, fun _ => fin (-1) V' W' (Or.inl ⟨rfl, hl⟩) hV hW, fun z => absurd z (by omega)⟩
  exact main 0 (by omega) a4.1 (fun j j1 j2 => absurd j2 (by omega)) V (am_up W 38 0) fa_refl fa_refl
theorem M_part {p w : Int} {D : Nat} (hD : 90 ≤ D) (hC : okC S) (hi : -2147483648 ≤ p ∧ p ≤ 2147483647) (hF : okF S) (hA : okA S) (hG : okG S) (h0 : ok0 S) (H0 : ¬ isP S p → MR b r K S V W 1 (0)) (H2 : isP S p → ¬ (0 ≤ w ∧ w ≤ 7) → MR b r K S V W 2 (0)) (H1 : isP S p → 0 ≤ w ∧ w ≤ 7 → MR b r K S V W 0 (ptR S p w)) : am_ev am_prog D 75 [.inr (.inl r), .inl p, .inl w] (mo b r (ms S) V W) K := by
  have c1 := hC.2.1
  have c4 := hG.1
  obtain ⟨d, rfl⟩ : ∃ d, D = d + 4 := ⟨D - 4, by omega⟩
  refine am_en p_X5_part rfl rfl ?_
  refine w_part_0 ⟨by omega, fun ip => ⟨fun e => ?_, fun e => MR_up (H2 ip e)⟩, fun c => MR_up (H0 c)⟩
  have pb := isP_bd hC hF ip
  have ap := hA p ip
  have a4 := ap.2.2.2.2.2.2.2
  have a3 := ap.2.2.2.2.1
  have HH := H1 ip e
  have go : ∀ a, a = ptR S p w → K (.inl (some (.inl (a)))) (mo b r (ms S) V (am_up W 38 0)) := fun a q => MR_up (MR_e HH q.symm)
  refine ⟨by omega, fun g0 => ⟨fun g1 => ⟨fun g2 => ⟨fun g3 => ⟨fun g4 => ⟨fun g5 => ⟨fun g6 => ?_, fun g6 => ?_⟩, fun g5 => ⟨by omega, fun z => go _ ?_, fun z => ⟨by omega, go _ ?_⟩⟩⟩, fun g4 => ⟨by omega, go _ (by rw [g4]; rfl)⟩⟩, fun g3 => ⟨by omega, go _ (by rw [g3]; rfl)⟩⟩, fun g2 => ⟨by omega, go _ (by rw [g2]; rfl)⟩⟩, fun g1 => ⟨by omega, go _ (by rw [g1]; rfl)⟩⟩, fun g0 => ⟨by omega, go _ (by rw [g0]; rfl)⟩⟩
  · have g7 : w = 7 := by omega
    have e7 : ptR S p w = sg (fun s => if S 4 s 0 = p then am_b (S 4 s 4 ≠ 0) else 0) 0 (S 0 0 4).toNat := by
      rw [g7]
      rfl
    have main : ∀ k, 0 ≤ k → k ≤ S 0 0 4 → am_W m_X5_part (am_ev am_prog (d + 3)) K 137 [some (.inr (.inl r)), some (.inl (p)), some (.inl (w)), some (.inl (130 + 645 * p)), some (.inl (sg (fun s => if S 4 s 0 = p then am_b (S 4 s 4 ≠ 0) else 0) 0 k.toNat)), some (.inl (k))] [] (mo b r (ms S) V (am_up W 38 0)) := by
      refine lp_z ?_ ?_
      · intro k k1 k2 hL
        have bd := sg_bd (c := 1) (f := fun s => if S 4 s 0 = p then am_b (S 4 s 4 ≠ 0) else 0) k.toNat 0 (fun j _ _ => by
          show 0 ≤ (if S 4 j 0 = p then am_b (S 4 j 4 ≠ 0) else 0) ∧ (if S 4 j 0 = p then am_b (S 4 j 4 ≠ 0) else 0) ≤ 1
          unfold am_b
          split
          · split <;> omega
          · omega)
        rw [sg_s k1] at hL
        have b2 : 0 ≤ am_b (S 4 k 4 ≠ 0) ∧ am_b (S 4 k 4 ≠ 0) ≤ 1 := by
          unfold am_b
          split <;> omega
        refine w_part_137 ⟨fun z => absurd z (by omega), fun _ => ⟨by omega, by omega, fun c => ⟨by omega, ?_⟩, fun c => ⟨by omega, by omega, by omega, ?_⟩⟩⟩
        · rw [if_neg c] at hL
          exact hL
        · rw [if_pos c] at hL
          exact hL
      · exact w_part_137 ⟨fun _ => go _ e7.symm, fun z => absurd z (by omega)⟩
    exact main 0 (by omega) c4.1
  · have e6 : ptR S p w = if S 3 p 3 = 1 then sg (rb S p) 0 (S 3 p 4).toNat else 0 := by
      rw [g6]
      rfl
    by_cases c3 : S 3 p 3 = 1
    · rw [if_pos c3] at e6
      have main : ∀ l, 0 ≤ l → l ≤ S 3 p 4 → ∀ V' W', fa [17, 18] V V' → fa [73] (am_up W 38 0) W' → am_W m_X5_part (am_ev am_prog (d + 3)) K 104 [some (.inr (.inl r)), some (.inl (p)), some (.inl (w)), some (.inl (130 + 645 * p)), some (.inl (sg (rb S p) 0 l.toNat)), some (.inl (l))] [] (mo b r (ms S) V' W') := by
        refine lp_z ?_ ?_
        · intro l l1 l2 hL V' W' hV hW
          have bd := sg_bd (c := 1) (f := rb S p) l.toNat 0 (fun j _ _ => by have := rb_01 (S := S) (p := p) (l := j); omega)
          rw [sg_s l1] at hL
          refine w_part_104 ⟨by omega, fun z => absurd c3 z, fun _ => ⟨by omega, fun z => absurd z (by omega), fun _ => c_rightS (by omega) hC hF hA hG h0 ip (by omega) (by omega) (fun V2 W2 hV2 hW2 => ⟨fun v => am_av (w_part_125 ?_), fun v => am_av (w_part_125 ?_)⟩)⟩⟩
          · rw [rb_t v] at hL
            exact ⟨by show _ ∧ _; rw [am_bt (by decide)]; omega, by rw [am_bt (by decide)]; exact hL V2 W2 (fa_trans hV hV2) (fa_trans hW hW2)⟩
          · rw [rb_f v] at hL
            exact ⟨by show _ ∧ _; rw [am_bf (by decide)]; omega, by rw [am_bf (by decide)]; exact hL V2 W2 (fa_trans hV hV2) (fa_trans hW hW2)⟩
        · intro V' W' hV hW
          exact w_part_104 ⟨by omega, fun z => absurd c3 z, fun _ => ⟨by omega, fun _ => MR_f (MR_e HH e6) hV hW rfl rfl rfl rfl rfl rfl, fun z => absurd z (by omega)⟩⟩
      exact main 0 (by omega) a4.1 V (am_up W 38 0) fa_refl fa_refl
    · rw [if_neg c3] at e6
      exact w_part_104 ⟨by omega, fun _ => go _ e6.symm, fun z => absurd z c3⟩
  · rw [g5]
    show -1 = if S 3 p 3 = 1 then S 3 p 4 else -1
    rw [if_neg z]
  · rw [g5]
    show S 3 p 4 = if S 3 p 3 = 1 then S 3 p 4 else -1
    rw [if_pos z]
theorem M_where {s m n : Int} {D : Nat} (hD : 90 ≤ D) (hC : okC S) (hG : okG S) (H0 : ¬ (0 ≤ s ∧ s < S 0 0 4) → MR b r K S V W 1 (0)) (H1 : 0 ≤ s ∧ s < S 0 0 4 → MR b r K S V W 0 (pos0 (whS S s m n (S 0 0 5).toNat).1)) : am_ev am_prog D 88 [.inr (.inl r), .inl s, .inl m, .inl n] (mo b r (ms S) V W) K := by
  have c5 := hC.2.2.2.1
  obtain ⟨d, rfl⟩ : ∃ d, D = d + 4 := ⟨D - 4, by omega⟩
  refine am_en p_X5_where rfl rfl ?_
  refine w_where_0 ⟨fun c => ?_, fun c => MR_up (H0 c)⟩
  have main : ∀ k, 0 ≤ k → k ≤ S 0 0 5 → ∀ o7, am_W m_X5_where (am_ev am_prog (d + 3)) K 20 [some (.inr (.inl r)), some (.inl (s)), some (.inl (m)), some (.inl (n)), some (.inl ((whS S s m n k.toNat).1)), some (.inl ((whS S s m n k.toNat).2)), some (.inl (k)), o7] [] (mo b r (ms S) V (am_up W 38 0)) := by
    refine lp_z ?_ ?_
    · intro k k1 k2 hL o7
      have e1 : (k + 1).toNat = k.toNat + 1 := by omega
      have e2 : ((k.toNat : Nat) : Int) = k := by omega
      have es : whS S s m n (k.toNat + 1) = if S 7 k 0 = s ∧ S 7 k 3 ≤ n ∧ S 7 k 2 ≤ m ∧ (whS S s m n k.toNat).2 ≤ S 7 k 2 then (if (whS S s m n k.toNat).2 < S 7 k 2 ∨ (whS S s m n k.toNat).1 = S 7 k 1 then S 7 k 1 else -2, S 7 k 2) else whS S s m n k.toNat := by
        show (if S 7 ((k.toNat : Nat) : Int) 0 = s ∧ _ then _ else _) = _
        rw [e2]
      rw [e1, es] at hL
      generalize whS S s m n k.toNat = w at hL ⊢
      refine w_where_20 ⟨fun z => absurd z (by omega), fun _ => ⟨by omega, fun c => ⟨by omega, ?_⟩, fun c => ⟨by omega, fun d => ⟨by omega, ?_⟩, fun d => ⟨by omega, fun e => ⟨by omega, ?_⟩, fun e => ⟨by omega, fun f => ⟨by omega, fun g => ⟨by omega, fun u => ⟨by omega, by omega, ?_⟩, fun u => ⟨by omega, by omega, ?_⟩⟩, fun g => ⟨by omega, by omega, by omega, ?_⟩⟩, fun f => ⟨by omega, ?_⟩⟩⟩⟩⟩⟩
      · rw [if_neg (fun y => c y.1)] at hL
        exact hL _
      · rw [if_neg (fun y => absurd y.2.1 (by omega))] at hL
        exact hL _
      · rw [if_neg (fun y => absurd y.2.2.1 (by omega))] at hL
        exact hL _
      · rw [if_pos ⟨c, d, e, f⟩, if_pos (Or.inr u)] at hL
        have hL' := hL (some (.inl (326582 + 4 * k)))
        rw [← u] at hL'
        exact hL'
      · rw [if_pos ⟨c, d, e, f⟩, if_neg (fun y => y.elim (fun y => absurd y (by omega)) u)] at hL
        exact hL _
      · rw [if_pos ⟨c, d, e, f⟩, if_pos (Or.inl g)] at hL
        exact hL _
      · rw [if_neg (fun y => absurd y.2.2.2 (by omega))] at hL
        exact hL _
    · intro o7
      refine w_where_20 ⟨fun _ => ⟨fun z => MR_up (MR_e (H1 c) (if_pos z)), fun z => MR_up (MR_e (H1 c) (if_neg (by omega)))⟩, fun z => absurd z (by omega)⟩
  exact main 0 (by omega) c5.1 _
theorem M_best {p w : Int} {D : Nat} (hD : 90 ≤ D) (hC : okC S) (hi : -2147483648 ≤ p ∧ p ≤ 2147483647) (hF : okF S) (hA : okA S) (hY : okY S) (hW : okWs S) (H0 : ¬ isP S p → MR b r K S V W 1 (0)) (H2 : isP S p → ¬ (0 ≤ w ∧ w ≤ 2) → MR b r K S V W 2 (0)) (H1 : isP S p → 0 ≤ w ∧ w ≤ 2 → MR b r K S V W 0 (bsR S p w)) : am_ev am_prog D 72 [.inr (.inl r), .inl p, .inl w] (mo b r (ms S) V W) K := by
  have c1 := hC.2.1
  obtain ⟨d, rfl⟩ : ∃ d, D = d + 4 := ⟨D - 4, by omega⟩
  refine am_en p_X5_best rfl rfl ?_
  refine w_best_0 ⟨by omega, fun ip => ⟨fun e => ?_, fun e => MR_up (H2 ip e)⟩, fun c => MR_up (H0 c)⟩
  have pb := isP_bd hC hF ip
  have ap := hA p ip
  have p1 := ap.1.1
  have okw := hW _ pb.2.2.1.1 pb.2.2.1.2
  have tl := tells_bd (p := p) (mi := S 0 0 0) hY
  have HH := H1 ip e
  refine c_work (by omega) hY pb.1 pb.2.2.1 ap.1 okw (fun V' W' hV hWf w63 w64 w65 w66 w67 w68 tb => am_an (w_best_28 ?_))
  have t0 := tb 0 (by omega) (by omega)
  have fin : ∀ a V2, a = bsR S p w → fa [11, 12, 13, 14, 15, 16, 19] V V2 → K (.inl (some (.inl (a)))) (mo b r (ms S) V2 W') := fun a V2 q hV2 => MR_f (MR_e HH q.symm) hV2 hWf rfl rfl rfl rfl rfl rfl
  have hV7 : fa [11, 12, 13, 14, 15, 16, 19] V V' := fa_sub hV rfl
  refine ⟨fun c2 => ⟨fun n => ⟨fun cw => fin _ V' ?_ hV7, fun cw => fin _ V' ?_ hV7⟩, fun n => fin _ V' ?_ hV7⟩, fun c2 => ?_⟩
  · rw [t0.1] at n ⊢
    exact ((if_neg c2).trans ((if_neg n).trans (if_neg cw))).symm
  · rw [t0.1] at n
    rw [(t0.2 n).1]
    exact ((if_neg c2).trans ((if_neg n).trans (if_pos cw))).symm
  · rw [t0.1] at n
    exact ((if_neg c2).trans (if_pos n)).symm
  · refine c_reach (by omega) pb.1 pb.2.2.1 ap.1 okw (by rw [w65]; exact tl.2.1) (by rw [w66]; exact tl.2.2.1) (fun V2 hV2 => am_av (w_best_34 (fin _ V2 ?_ (fa_trans hV7 (fa_sub hV2 rfl)))))
    rw [w63, w65, w66]
    exact (if_pos c2).symm
theorem M_rule {p mi w : Int} {D : Nat} (hD : 90 ≤ D) (hC : okC S) (hi : -2147483648 ≤ p ∧ p ≤ 2147483647) (hF : okF S) (hY : okY S) (H0 : ¬ isP S p → MR b r K S V W 1 (0)) (H2 : isP S p → ¬ (0 ≤ mi ∧ mi ≤ 600) → MR b r K S V W 2 (0)) (H3 : isP S p → 0 ≤ mi ∧ mi ≤ 600 → ¬ (0 ≤ w ∧ w ≤ 5) → MR b r K S V W 3 (0)) (H1 : isP S p → 0 ≤ mi ∧ mi ≤ 600 → 0 ≤ w ∧ w ≤ 5 → MR b r K S V W 0 (ruR S p mi w)) : am_ev am_prog D 87 [.inr (.inl r), .inl p, .inl mi, .inl w] (mo b r (ms S) V W) K := by
  have c1 := hC.2.1
  obtain ⟨d, rfl⟩ : ∃ d, D = d + 4 := ⟨D - 4, by omega⟩
  refine am_en p_X5_rule rfl rfl ?_
  refine w_rule_0 ⟨by omega, fun ip => ⟨fun e => ⟨fun f => ?_, fun f => MR_up (H3 ip e f)⟩, fun e => MR_up (H2 ip e)⟩, fun c => MR_up (H0 c)⟩
  have pb := isP_bd hC hF ip
  refine c_tells (by omega) hY pb.1 (fun V' W' hV hWf w63 w64 w65 w66 w67 w68 => am_an (w_rule_32 ?_))
  have fin : ∀ a, a = ruR S p mi w → K (.inl (some (.inl (a)))) (mo b r (ms S) V' W') := fun a q => MR_f (MR_e (H1 ip e f) q.symm) hV hWf rfl rfl rfl rfl rfl rfl
  refine ⟨fun g0 => ⟨fun g1 => ⟨fun g2 => ⟨fun g3 => ⟨fun g4 => fin _ ?_, fun g4 => fin _ (by rw [w68, g4]; rfl)⟩, fun g3 => fin _ (by rw [w67, g3]; rfl)⟩, fun g2 => fin _ (by rw [w66, g2]; rfl)⟩, fun g1 => fin _ (by rw [w65, g1]; rfl)⟩, fun g0 => fin _ (by rw [w63, g0]; rfl)⟩
  rw [w64]
  unfold ruR
  rw [if_neg g0, if_neg g1, if_neg g2, if_neg g3, if_neg g4]
end
