set_option maxRecDepth 100000
/-- which pieces lines reach, behind i pieces -/
def cnR (v w : Int → Int) (me le mo : Int) : Nat → Int → Int
  | 0 => fun j => am_b (j = 0)
  | i + 1 => fun j => if (i : Int) < j ∧ j ≤ v 1 ∧ cnR v w me le mo i i ≠ 0 ∧ stn v w me le mo i (j - 1) then 1 else cnR v w me le mo i j
/-- how far -/
def frR (v w : Int → Int) (me le mo : Int) : Nat → Int
  | 0 => 0
  | i + 1 => if cnR v w me le mo (i + 1) ((i : Int) + 1) ≠ 0 then (i : Int) + 1 else frR v w me le mo i
theorem cnR_01 {v w : Int → Int} {me le mo : Int} : ∀ (i : Nat) (j : Int), cnR v w me le mo i j = 0 ∨ cnR v w me le mo i j = 1
  | 0, j => am_bz _
  | i + 1, j => by
    unfold cnR
    split
    · exact Or.inr rfl
    · exact cnR_01 i j
/-- the last piece of a line by hand: among m pieces from i on -/
def lj (v w : Int → Int) (me le i : Int) : Nat → Int
  | 0 => -1
  | m + 1 => if tgt v w le i (i + (m : Int)) ≤ me then i + (m : Int) else lj v w me le i m
theorem lj_bd {v w : Int → Int} {me le i : Int} (hi : 0 ≤ i) : ∀ m : Nat, lj v w me le i m = -1 ∨ (i ≤ lj v w me le i m ∧ lj v w me le i m < i + m)
  | 0 => Or.inl rfl
  | m + 1 => by
    unfold lj
    split
    · exact Or.inr (by omega)
    · rcases lj_bd (v := v) (w := w) (me := me) (le := le) hi m with e | e
      · exact Or.inl e
      · exact Or.inr (by omega)
/-- lines by hand from i on: how many and how many do not stand; none -/
def hnd (v w : Int → Int) (me le mo : Int) : Nat → Int → Int → Int → Option (Int × Int)
  | 0, _, _, _ => none
  | t + 1, i, x, y => if v 1 ≤ i then some (x, y) else if lj v w me le i (v 1 - i).toNat = -1 then none else hnd v w me le mo t (lj v w me le i (v 1 - i).toNat + 1) (x + 1) (y + am_b (¬ stn v w me le mo i (lj v w me le i (v 1 - i).toNat)))
section
variable {K : am_K} {b : am_H} {r : Nat} {S : am_G} {V : Nat → Int → Int} {W : Nat → Int}
theorem c_reach {p : Int} {D : Nat} (hD : 7 ≤ D) (hp : 0 ≤ p ∧ p < 100) (hf : 0 ≤ S 2 0 (p / 5) ∧ S 2 0 (p / 5) < 2) (ho : okP (S 3 p)) (hw : okW (S 1 (S 2 0 (p / 5)))) (hl : 0 ≤ W 65 ∧ W 65 ≤ 40) (hm : 0 ≤ W 66 ∧ W 66 ≤ 40) (H : ∀ V', fa [19] V V' → K (.inl (some (.inl (frR (S 3 p) (S 1 (S 2 0 (p / 5))) (W 63) (W 65) (W 66) ((S 3 p) 1).toNat)))) (mo b r (ms S) V' W)) : am_ev am_prog D 174 [.inr (.inl r), .inl p] (mo b r (ms S) V W) K := by
  have h1 := ho.1
  obtain ⟨d, rfl⟩ : ∃ d, D = d + 4 := ⟨D - 4, by omega⟩
  refine am_en p_X5_reach rfl rfl ?_
  refine w_reach_0 ⟨by omega, by omega, ?_⟩
  have main : ∀ i, 0 ≤ i → i ≤ (S 3 p) 1 → ∀ V' o5, fa [19] V V' → (∀ j, 0 ≤ j → j ≤ (S 3 p) 1 → V' 19 j = cnR (S 3 p) (S 1 (S 2 0 (p / 5))) (W 63) (W 65) (W 66) i.toNat j) → am_W m_X5_reach (am_ev am_prog (d + 3)) K 29 [some (.inr (.inl r)), some (.inl (p)), some (.inl ((S 3 p) 1)), some (.inl (frR (S 3 p) (S 1 (S 2 0 (p / 5))) (W 63) (W 65) (W 66) i.toNat)), some (.inl (i)), o5] [] (mo b r (ms S) V' W) := by
    refine lp_z ?_ ?_
    · intro i g1 g2 hL V' o5 hV hq
      have e1 : (i + 1).toNat = i.toNat + 1 := by omega
      have ei : ((i.toNat : Nat) : Int) = i := by omega
      rw [e1] at hL
      have ci := cnR_01 (v := (S 3 p)) (w := (S 1 (S 2 0 (p / 5)))) (me := W 63) (le := W 65) (mo := W 66) i.toNat i
      have fin : ∀ V' x5, fa [19] V V' → (∀ j, 0 ≤ j → j ≤ (S 3 p) 1 → V' 19 j = cnR (S 3 p) (S 1 (S 2 0 (p / 5))) (W 63) (W 65) (W 66) (i.toNat + 1) j) → (V' 19 (i + 1) = 0 → am_W m_X5_reach (am_ev am_prog (d + 3)) K 29 [some (.inr (.inl r)), some (.inl (p)), some (.inl ((S 3 p) 1)), some (.inl (frR (S 3 p) (S 1 (S 2 0 (p / 5))) (W 63) (W 65) (W 66) i.toNat)), some (.inl (i + 1)), some (.inl (x5))] [] (mo b r (ms S) V' W)) ∧ (V' 19 (i + 1) ≠ 0 → am_W m_X5_reach (am_ev am_prog (d + 3)) K 29 [some (.inr (.inl r)), some (.inl (p)), some (.inl ((S 3 p) 1)), some (.inl (i + 1)), some (.inl (i + 1)), some (.inl (x5))] [] (mo b r (ms S) V' W)) := by
        intro V' x5 hV hq
        have hL1 := hL V' (some (.inl x5)) hV hq
        have q1 := hq (i + 1) (by omega) (by omega)
        unfold frR at hL1
        rw [ei] at hL1
        refine ⟨fun z => ?_, fun z => ?_⟩
        · rw [if_neg (fun y => y (by rw [← q1]; exact z))] at hL1
          exact hL1
        · rw [if_pos (by rw [← q1]; exact z)] at hL1
          exact hL1
      have inner : ∀ j, i + 1 ≤ j → j ≤ (S 3 p) 1 + 1 → ∀ V', fa [19] V V' → (∀ q, 0 ≤ q → q ≤ (S 3 p) 1 → V' 19 q = if q < j then cnR (S 3 p) (S 1 (S 2 0 (p / 5))) (W 63) (W 65) (W 66) (i.toNat + 1) q else cnR (S 3 p) (S 1 (S 2 0 (p / 5))) (W 63) (W 65) (W 66) i.toNat q) → am_W m_X5_reach (am_ev am_prog (d + 3)) K 36 [some (.inr (.inl r)), some (.inl (p)), some (.inl ((S 3 p) 1)), some (.inl (frR (S 3 p) (S 1 (S 2 0 (p / 5))) (W 63) (W 65) (W 66) i.toNat)), some (.inl (i)), some (.inl (j))] [] (mo b r (ms S) V' W) := by
        refine lp_z ?_ ?_
        · intro j k1 k2 jL V' hV hq
          have qi := hq i g1 (by omega)
          have ci2 : cnR (S 3 p) (S 1 (S 2 0 (p / 5))) (W 63) (W 65) (W 66) (i.toNat + 1) i = cnR (S 3 p) (S 1 (S 2 0 (p / 5))) (W 63) (W 65) (W 66) i.toNat i := by
            show (if _ then _ else _) = _
            rw [if_neg (by rw [ei]; omega)]
          rw [if_pos (by omega), ci2] at qi
          have qj := hq j (by omega) (by omega)
          rw [if_neg (by omega)] at qj
          have cj : cnR (S 3 p) (S 1 (S 2 0 (p / 5))) (W 63) (W 65) (W 66) (i.toNat + 1) j = if (i < j ∧ j ≤ (S 3 p) 1 ∧ cnR (S 3 p) (S 1 (S 2 0 (p / 5))) (W 63) (W 65) (W 66) i.toNat i ≠ 0 ∧ stn (S 3 p) (S 1 (S 2 0 (p / 5))) (W 63) (W 65) (W 66) i (j - 1)) then 1 else cnR (S 3 p) (S 1 (S 2 0 (p / 5))) (W 63) (W 65) (W 66) i.toNat j := by
            show (if ((i.toNat : Nat) : Int) < j ∧ j ≤ (S 3 p) 1 ∧ cnR (S 3 p) (S 1 (S 2 0 (p / 5))) (W 63) (W 65) (W 66) i.toNat ((i.toNat : Nat) : Int) ≠ 0 ∧ stn (S 3 p) (S 1 (S 2 0 (p / 5))) (W 63) (W 65) (W 66) ((i.toNat : Nat) : Int) (j - 1) then 1 else _) = _
            rw [ei]
          have next : ∀ x, x = cnR (S 3 p) (S 1 (S 2 0 (p / 5))) (W 63) (W 65) (W 66) (i.toNat + 1) j → am_W m_X5_reach (am_ev am_prog (d + 3)) K 36 [some (.inr (.inl r)), some (.inl (p)), some (.inl ((S 3 p) 1)), some (.inl (frR (S 3 p) (S 1 (S 2 0 (p / 5))) (W 63) (W 65) (W 66) i.toNat)), some (.inl (i)), some (.inl (j + 1))] [] (mo b r (ms S) (am_up V' 19 (am_uz (V' 19) j x)) W) := by
            intro x hx
            refine jL _ (fa_up hV rfl) ?_
            intro q y1 y2
            rw [am_up_eq]
            by_cases e : q = j
            · subst e
              rw [am_uz_eq, if_pos (by omega), hx]
            · rw [am_uz_ne e, hq q y1 y2]
              by_cases e2 : q < j
              · rw [if_pos e2, if_pos (by omega)]
              · rw [if_neg e2, if_neg (by omega)]
          refine w_reach_36 ⟨fun c => absurd c (by omega), fun _ => ⟨by omega, fun c => ?_, fun c => ⟨by omega, fun c2 => ⟨by omega, by omega, next 1 ?_⟩, fun c2 => ⟨by omega, ?_⟩⟩⟩⟩
          · have c' : cnR (S 3 p) (S 1 (S 2 0 (p / 5))) (W 63) (W 65) (W 66) i.toNat i = 0 := by rw [← qi]; exact c
            have all : ∀ q, 0 ≤ q → q ≤ (S 3 p) 1 → V' 19 q = cnR (S 3 p) (S 1 (S 2 0 (p / 5))) (W 63) (W 65) (W 66) (i.toNat + 1) q := by
              intro q y1 y2
              rw [hq q y1 y2]
              split
              · rfl
              · show _ = (if ((i.toNat : Nat) : Int) < q ∧ q ≤ (S 3 p) 1 ∧ cnR (S 3 p) (S 1 (S 2 0 (p / 5))) (W 63) (W 65) (W 66) i.toNat ((i.toNat : Nat) : Int) ≠ 0 ∧ stn (S 3 p) (S 1 (S 2 0 (p / 5))) (W 63) (W 65) (W 66) ((i.toNat : Nat) : Int) (q - 1) then 1 else _)
                rw [ei, if_neg (fun z => z.2.2.1 c')]
            have ff := fin V' j hV all
            exact ⟨by omega, fun z => ⟨by omega, ff.1 z⟩, fun z => ⟨by omega, by omega, ff.2 z⟩⟩
          · rw [cj]
            split
            · rfl
            · rename_i c3
              rw [qj] at c2
              have := cnR_01 (v := (S 3 p)) (w := (S 1 (S 2 0 (p / 5)))) (me := W 63) (le := W 65) (mo := W 66) i.toNat j
              omega
          · refine c_isStanding (by omega) hp hf ho hw hl hm g1 (by omega) (by omega) (am_av ?_)
            refine w_reach_59 ⟨by omega, by omega, next _ ?_⟩
            by_cases c3 : stn (S 3 p) (S 1 (S 2 0 (p / 5))) (W 63) (W 65) (W 66) i (j - 1)
            · rw [cj, if_pos ⟨by omega, by omega, by rw [← qi]; exact c, c3⟩, am_bt c3]
              exact am_bt (by decide)
            · rw [cj, if_neg (fun z => c3 z.2.2.2), am_bf c3, ← qj, c2]
              exact am_bf (fun z => z rfl)
        · intro V' hV hq
          have all : ∀ q, 0 ≤ q → q ≤ (S 3 p) 1 → V' 19 q = cnR (S 3 p) (S 1 (S 2 0 (p / 5))) (W 63) (W 65) (W 66) (i.toNat + 1) q := by
            intro q y1 y2
            rw [hq q y1 y2, if_pos (by omega)]
          have ff := fin V' ((S 3 p) 1 + 1) hV all
          exact w_reach_36 ⟨fun _ => ⟨by omega, fun z => ⟨by omega, ff.1 z⟩, fun z => ⟨by omega, by omega, ff.2 z⟩⟩, fun c => absurd c (by omega)⟩
      refine w_reach_29 ⟨fun c => absurd c (by omega), fun _ => ⟨by omega, inner (i + 1) (by omega) (by omega) V' hV ?_⟩⟩
      intro q y1 y2
      rw [hq q y1 y2]
      split
      · show _ = (if ((i.toNat : Nat) : Int) < q ∧ _ then 1 else _)
        rw [ei, if_neg (by omega)]
      · rfl
    · intro V' o5 hV hq
      exact w_reach_29 ⟨fun _ => H V' hV, fun c => absurd c (by omega)⟩
  have m0 : ∀ k, 1 ≤ k → k ≤ 41 → ∀ V' o4 o5, fa [19] V V' → (∀ j, 1 ≤ j → j < k → V' 19 j = 0) → am_W m_X5_reach (am_ev am_prog (d + 3)) K 10 [some (.inr (.inl r)), some (.inl (p)), some (.inl ((S 3 p) 1)), some (.inl (k)), o4, o5] [] (mo b r (ms S) V' W) := by
    refine lp_z ?_ ?_
    · intro k g1 g2 hL V' o4 o5 hV hq
      refine w_reach_10 ⟨fun c => absurd c (by omega), fun _ => ⟨by omega, by omega, hL _ _ _ (fa_up hV rfl) ?_⟩⟩
      intro j y1 y2
      rw [am_up_eq]
      by_cases e : j = k
      · subst e
        exact am_uz_eq
      · rw [am_uz_ne e]
        exact hq j y1 (by omega)
    · intro V' o4 o5 hV hq
      refine w_reach_10 ⟨fun _ => ?_, fun c => absurd c (by omega)⟩
      refine main 0 (by omega) (by omega) _ _ (fa_up hV rfl) ?_
      intro j y1 y2
      rw [am_up_eq]
      show am_uz (V' 19) 0 1 j = am_b (j = 0)
      by_cases e : j = 0
      · rw [e, am_uz_eq, am_bt rfl]
      · rw [am_uz_ne e, am_bf e]
        exact hq j (by omega) (by omega)
  exact m0 1 (by omega) (by omega) V _ _ fa_refl (fun j y1 y2 => absurd y2 (by omega))
end
