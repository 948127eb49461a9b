set_option maxRecDepth 100000
section
variable {K : am_K} {b : am_H} {r : Nat} {S : am_G} {V : Nat → Int → Int} {W : Nat → Int}
theorem c_work_in {p mi n me le mx co i : Int} {d : Nat} (hd : 6 ≤ d + 3) (hp : 0 ≤ p ∧ p < 100) (hf : 0 ≤ S 2 0 (p / 5) ∧ S 2 0 (p / 5) < 2) (ho : okP (S 3 p)) (hw : okW (S 1 (S 2 0 (p / 5)))) (hn : n = S 3 p 1) (hm : 0 ≤ me ∧ me ≤ 400) (hl : 0 ≤ le ∧ le ≤ 40) (hmo : 0 ≤ mx ∧ mx ≤ 40) (hc : 0 ≤ co ∧ co ≤ 999) {W' : Nat → Int} (w1 : W' 63 = me) (w2 : W' 65 = le) (w3 : W' 66 = mx) (w4 : W' 67 = co) {T : Int → Int × Int × Int} (hi : 0 ≤ i ∧ i < n) (hT : ∀ j, i < j → j ≤ n → okT n j (T j))
    (H : ∀ V' o5 o6 o7, fa [14, 15, 16] V V' → tbd V' (am_uz T i (stp (S 3 p) (S 1 (S 2 0 (p / 5))) me le mx co (fun j => (T j).1) (fun j => (T j).2.1) n i (n - i).toNat)) i n → am_W m_X5_work (am_ev am_prog (d + 3)) K 26 [some (.inr (.inl r)), some (.inl (p)), some (.inl (mi)), some (.inl (n)), some (.inl (i + (-1))), o5, o6, o7] [] (mo b r (ms S) V' W')) :
    ∀ j, i ≤ j → j ≤ n → ∀ V' o6 o7, fa [14, 15, 16] V V' → tbd V' (am_uz T i (stp (S 3 p) (S 1 (S 2 0 (p / 5))) me le mx co (fun j => (T j).1) (fun j => (T j).2.1) n i (n - j).toNat)) i n → am_W m_X5_work (am_ev am_prog (d + 3)) K 35 [some (.inr (.inl r)), some (.inl (p)), some (.inl (mi)), some (.inl (n)), some (.inl (i)), some (.inl (j)), o6, o7] [] (mo b r (ms S) V' W') := by
  have hn0 := ho.1
  refine lp_d ?_ ?_
  · intro j h1 h2 hL V' o6 o7 hV ht
    have e1 : (n - (j + (-1))).toNat = (n - j).toNat + 1 := by omega
    have e2 : n - (((n - j).toNat : Nat) : Int) = j := by omega
    have bq := stp_bd ho hw (mo := mx) hm hl hc hi.1 (by omega) hT (n - j).toNat (by omega)
    have tj := ht j (by omega) h2
    rw [am_uz_ne (by omega)] at tj
    have ti := ht i (by omega) (by omega)
    rw [am_uz_eq] at ti
    have bj := hT j h1 h2
    rw [e1] at hL
    unfold stp at hL
    simp only [e2] at hL
    generalize stp (S 3 p) (S 1 (S 2 0 (p / 5))) me le mx co (fun j => (T j).1) (fun j => (T j).2.1) n i (n - j).toNat = q at hL ht bq ti
    refine w_work_35 ⟨fun c => absurd c (by omega), fun c => ⟨by omega, fun c1 => ⟨by omega, ?_⟩, fun c1 => ⟨by omega, ?_⟩⟩⟩
    · refine hL V' _ _ hV ?_
      rw [if_pos (Or.inl (by rw [← tj.1]; exact c1))]
      exact ht
    have c1' : (T j).1 ≠ -1 := by rw [← tj.1]; exact c1
    have tj2 := tj.2 c1'
    rcases bj with bj | ⟨bj1, bj2, bj3⟩
    · exact absurd bj c1'
    refine c_isStanding (by omega) hp hf ho hw (by rw [w2]; exact hl) (by rw [w3]; exact hmo) hi.1 (by omega) (by omega) (am_av ?_)
    rw [w1, w2, w3]
    refine w_work_51 ⟨fun c2 => ⟨by omega, ?_⟩, fun c2 => ⟨by omega, ?_⟩⟩
    · have c3 := am_b1 c2
      have bb := bdn_bd ho hw (mo := mx) hm hl hc hi.1 (by omega) (by omega) c3
      refine c_badness (by omega) hp hf ho hw (by rw [w2]; exact hl) (by rw [w1]; exact hm) (by rw [w4]; exact hc) hi.1 (by omega) (by omega) (am_av ?_)
      rw [w1, w2, w4]
      rw [if_neg (fun z => z.elim c1' (fun z => z c3))] at hL
      have upd : (¬ (q.1 ≠ -1 ∧ (q.1 < (T j).1 + bdn (S 3 p) (S 1 (S 2 0 (p / 5))) me le co i (j - 1) ∨ (T j).1 + bdn (S 3 p) (S 1 (S 2 0 (p / 5))) me le co i (j - 1) = q.1 ∧ q.2.1 ≤ (T j).2.1 + 1))) → am_W m_X5_work (am_ev am_prog (d + 3)) K 35 [some (.inr (.inl r)), some (.inl (p)), some (.inl (mi)), some (.inl (n)), some (.inl (i)), some (.inl (j + (-1))), some (.inl (V' 14 j + bdn (S 3 p) (S 1 (S 2 0 (p / 5))) me le co i (j - 1))), some (.inl (V' 15 j + 1))] [] (mo b r (ms S) (am_up (am_up (am_up V' 14 (am_uz (V' 14) i (V' 14 j + bdn (S 3 p) (S 1 (S 2 0 (p / 5))) me le co i (j - 1)))) 15 (am_uz (V' 15) i (V' 15 j + 1))) 16 (am_uz (V' 16) i j)) W') := by
        intro cc
        rw [if_neg cc] at hL
        refine hL _ _ _ (fa_up (fa_up (fa_up hV rfl) rfl) rfl) ?_
        intro j' g1 g2
        rw [am_up_ne (by decide : (14 : Nat) ≠ 16), am_up_ne (by decide : (14 : Nat) ≠ 15), am_up_eq, am_up_ne (by decide : (15 : Nat) ≠ 16), am_up_eq, am_up_eq]
        by_cases g3 : j' = i
        · subst g3
          rw [am_uz_eq, am_uz_eq, am_uz_eq, am_uz_eq, tj.1, tj2.1]
          exact ⟨rfl, fun _ => ⟨rfl, fun _ => rfl⟩⟩
        · have hh := ht j' g1 g2
          rw [am_uz_ne g3] at hh
          rw [am_uz_ne g3, am_uz_ne g3, am_uz_ne g3, am_uz_ne g3]
          exact hh
      have skp : (q.1 ≠ -1 ∧ (q.1 < (T j).1 + bdn (S 3 p) (S 1 (S 2 0 (p / 5))) me le co i (j - 1) ∨ (T j).1 + bdn (S 3 p) (S 1 (S 2 0 (p / 5))) me le co i (j - 1) = q.1 ∧ q.2.1 ≤ (T j).2.1 + 1)) → ∀ o6 o7, am_W m_X5_work (am_ev am_prog (d + 3)) K 35 [some (.inr (.inl r)), some (.inl (p)), some (.inl (mi)), some (.inl (n)), some (.inl (i)), some (.inl (j + (-1))), o6, o7] [] (mo b r (ms S) V' W') := by
        intro cc o6 o7
        rw [if_pos cc] at hL
        exact hL V' o6 o7 hV ht
      refine w_work_64 ⟨by omega, fun c4 => ⟨by omega, by omega, by omega, by omega, upd (fun z => z.1 (by rw [← ti.1]; exact c4))⟩, fun c4 => ⟨by omega, fun c5 => ⟨by omega, skp ⟨by rw [← ti.1]; exact c4, Or.inl (by omega)⟩ _ _⟩, fun c5 => ⟨by omega, fun c6 => ⟨by omega, by omega, by omega, by omega, upd (fun z => by have z2 := z.2; omega)⟩, fun c6 => ⟨by omega, ?_, ?_⟩⟩⟩⟩
      · intro c7
        have ti2 := ti.2 (by rw [← ti.1]; exact c4)
        refine ⟨by omega, by omega, by omega, by omega, upd (fun z => ?_)⟩
        have z2 := z.2
        omega
      · intro c7
        have ti2 := ti.2 (by rw [← ti.1]; exact c4)
        exact ⟨by omega, skp ⟨by rw [← ti.1]; exact c4, Or.inr ⟨by omega, by omega⟩⟩ _ _⟩
    · refine hL V' _ _ hV ?_
      rw [if_pos (Or.inr (am_b0 c2))]
      exact ht
  · intro V' o6 o7 hV ht
    exact w_work_35 ⟨fun c => ⟨by omega, H V' _ _ _ hV ht⟩, fun c => absurd c (by omega)⟩
theorem c_work {p mi : Int} {D : Nat} (hD : 7 ≤ D) (hY : okY S) (hp : 0 ≤ p ∧ p < 100) (hf : 0 ≤ S 2 0 (p / 5) ∧ S 2 0 (p / 5) < 2) (ho : okP (S 3 p)) (hw : okW (S 1 (S 2 0 (p / 5)))) (H : ∀ V' W', fa [11, 12, 13, 14, 15, 16] V V' → fa [62, 63, 64, 65, 66, 67, 68] W W' → W' 63 = meS S p mi → W' 64 = mrS S p mi → W' 65 = leS S p mi → W' 66 = moS S p mi → W' 67 = coS S p mi → W' 68 = ftS S p mi → tbd V' (tbS S p mi) 0 (S 3 p 1) → K (.inl none) (mo b r (ms S) V' W')) : am_ev am_prog D 113 [.inr (.inl r), .inl p, .inl mi] (mo b r (ms S) V W) K := by
  have hn0 := ho.1
  have tl := tells_bd (p := p) (mi := mi) hY
  obtain ⟨d, rfl⟩ : ∃ d, D = d + 4 := ⟨D - 4, by omega⟩
  refine am_en p_X5_work rfl rfl ?_
  refine w_work_0 (c_tells (by omega) hY hp (fun V1 W' a1 b1 w1 w2 w3 w4 w5 w6 => am_an ?_))
  refine w_work_4 ⟨by omega, by omega, by omega, by omega, ?_⟩
  have main : ∀ i, -1 ≤ i → i ≤ S 3 p 1 - 1 → ∀ V' o5 o6 o7, fa [14, 15, 16] V1 V' → tbd V' (tb (S 3 p) (S 1 (S 2 0 (p / 5))) (meS S p mi) (leS S p mi) (moS S p mi) (coS S p mi) (S 3 p 1) (S 3 p 1 - 1 - i).toNat) (i + 1) (S 3 p 1) → am_W m_X5_work (am_ev am_prog (d + 3)) K 26 [some (.inr (.inl r)), some (.inl (p)), some (.inl (mi)), some (.inl (S 3 p 1)), some (.inl (i)), o5, o6, o7] [] (mo b r (ms S) V' W') := by
    refine lp_d ?_ ?_
    · intro i h1 h2 hL V' o5 o6 o7 hV ht
      refine w_work_26 ⟨fun c => absurd c (by omega), fun c => ⟨by omega, ?_⟩⟩
      have e1 : (S 3 p 1 - 1 - (i + (-1))).toNat = (S 3 p 1 - 1 - i).toNat + 1 := by omega
      have e2 : S 3 p 1 - ((((S 3 p 1 - 1 - i).toNat : Nat) : Int) + 1) = i := by omega
      have e3 : (S 3 p 1 - 1 - i).toNat + 1 = (S 3 p 1 - i).toNat := by omega
      rw [e1] at hL
      unfold tb at hL
      rw [e2, e3] at hL
      have bt := tb_bd ho hw (mo := moS S p mi) tl.1 tl.2.1 tl.2.2.2.1 (n := S 3 p 1) (by omega) (S 3 p 1 - 1 - i).toNat (by omega)
      refine c_work_in (V := V1) (by omega) hp hf ho hw rfl tl.1 tl.2.1 tl.2.2.1 tl.2.2.2.1 w1 w3 w4 w5 (T := tb (S 3 p) (S 1 (S 2 0 (p / 5))) (meS S p mi) (leS S p mi) (moS S p mi) (coS S p mi) (S 3 p 1) (S 3 p 1 - 1 - i).toNat) (by omega) (fun j a c => bt j (by omega) c) ?_ (S 3 p 1) (by omega) (by omega) _ _ _ (fa_up hV rfl) ?_
      · intro V2 o5 o6 o7 hV2 ht2
        have e4 : i + (-1) + 1 = i := by omega
        rw [e4] at hL
        exact hL V2 _ _ _ hV2 ht2
      · intro j g1 g2
        rw [am_up_eq, am_up_ne (by decide : (15 : Nat) ≠ 14), am_up_ne (by decide : (16 : Nat) ≠ 14)]
        by_cases g3 : j = i
        · subst g3
          have e5 : (S 3 p 1 - S 3 p 1).toNat = 0 := by omega
          rw [am_uz_eq, am_uz_eq, e5]
          exact ⟨rfl, fun z => absurd rfl z⟩
        · rw [am_uz_ne g3, am_uz_ne g3]
          exact ht j (by omega) g2
    · intro V' o5 o6 o7 hV ht
      refine w_work_26 ⟨fun c => ?_, fun c => absurd c (by omega)⟩
      refine H V' W' (fa_trans (fa_sub a1 rfl) (fa_sub hV rfl)) b1 w1 w2 w3 w4 w5 w6 ?_
      have e5 : (S 3 p 1 - 1 - -1).toNat = (S 3 p 1).toNat := by omega
      rw [e5] at ht
      exact ht
  refine main _ (by omega) (by omega) _ _ _ _ (fa_up (fa_up fa_refl rfl) rfl) ?_
  intro j g1 g2
  have e : j = S 3 p 1 := by omega
  have e5 : (S 3 p 1 - 1 - (S 3 p 1 - 1)).toNat = 0 := by omega
  rw [e5, am_up_ne (by decide : (14 : Nat) ≠ 15), am_up_eq, am_up_eq, e, am_uz_eq, am_uz_eq]
  exact ⟨rfl, fun _ => ⟨rfl, fun z => absurd z (by omega)⟩⟩
end
