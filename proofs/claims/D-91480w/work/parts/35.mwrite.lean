set_option maxRecDepth 100000
section
variable {K : am_K} {b : am_H} {r : Nat} {S : am_G} {V : Nat → Int → Int} {W : Nat → Int}
theorem c_write {p l : Int} {D : Nat} (hD : 4 ≤ D) (hp : 0 ≤ p ∧ p < 100) (ho : okP (S 3 p)) (hl : 0 ≤ l ∧ l < 40) (h4 : 0 ≤ (S 3 p) 4 ∧ (S 3 p) 4 ≤ 40) (hb : 0 ≤ bg (S 3 p) l ∧ bg (S 3 p) l ≤ (S 3 p) (5 + l)) (he : (S 3 p) (5 + l) < 40) (hlen : ((lnS (S 3 p) l).length : Int) ≤ 420) (H : ∀ V' W', fa [17, 18] V V' → fa [73] W W' → W' 73 = ((lnS (S 3 p) l).length : Int) → pf (V' 17) (lnS (S 3 p) l) → (∀ c, 0 ≤ c → c < 27 → V' 18 c = cn (sgn c) (lnS (S 3 p) l)) → K (.inl none) (mo b r (ms S) V' W')) : am_ev am_prog D 193 [.inr (.inl r), .inl p, .inl l] (mo b r (ms S) V W) K := by
  have h1 := ho.1
  have hbg : bg (S 3 p) l = if l = 0 then 0 else (S 3 p) (4 + l) + 1 := rfl
  have hb3 : -2147483648 ≤ (S 3 p) (4 + l) + 1 ∧ (S 3 p) (4 + l) + 1 ≤ 2147483647 := by
    by_cases c : l = 0
    · subst c
      have e : (S 3 p) (4 + 0) = (S 3 p) 4 := rfl
      rw [e]
      omega
    · rw [hbg, if_neg c] at hb
      omega
  have hsn : ∀ n : Nat, (n : Int) ≤ (S 3 p) (5 + l) + 1 - bg (S 3 p) l → ((sayN (S 3 p) (bg (S 3 p) l) n).length : Int) ≤ 420 := by
    intro n hn
    have e1 := sayN_le (v := (S 3 p)) (a := bg (S 3 p) l) n ((S 3 p) (5 + l) + 1 - bg (S 3 p) l).toNat (by omega)
    have e2 : (sayN (S 3 p) (bg (S 3 p) l) ((S 3 p) (5 + l) + 1 - bg (S 3 p) l).toNat).length ≤ (lnS (S 3 p) l).length := by
      unfold lnS say
      rw [List.length_append]
      omega
    omega
  obtain ⟨d, rfl⟩ : ∃ d, D = d + 4 := ⟨D - 4, by omega⟩
  refine am_en p_X5_write rfl rfl ?_
  refine w_write_0 ⟨by omega, by omega, ?_⟩
  have main2 : ∀ k, bg (S 3 p) l ≤ k → k ≤ (S 3 p) (5 + l) + 1 → ∀ V' W' o6 o7, fa [17, 18] V V' → fa [73] W W' → W' 73 = ((sayN (S 3 p) (bg (S 3 p) l) (k - bg (S 3 p) l).toNat).length : Int) → pf (V' 17) (sayN (S 3 p) (bg (S 3 p) l) (k - bg (S 3 p) l).toNat) → (∀ c, 0 ≤ c → c < 27 → V' 18 c = cn (sgn c) (sayN (S 3 p) (bg (S 3 p) l) (k - bg (S 3 p) l).toNat)) → am_W m_X5_write (am_ev am_prog (d + 3)) K 32 [some (.inr (.inl r)), some (.inl (p)), some (.inl (l)), some (.inl (130 + 645 * p)), some (.inl ((S 3 p) (5 + l))), some (.inl (k)), o6, o7] [] (mo b r (ms S) V' W') := by
    refine lp_z ?_ ?_
    · intro k g1 g2 hL V' W' o6 o7 hV hW q1 q2 q3
      have ek : bg (S 3 p) l + (((k - bg (S 3 p) l).toNat : Nat) : Int) = k := by omega
      have e1 : (k + 1 - bg (S 3 p) l).toNat = (k - bg (S 3 p) l).toNat + 1 := by omega
      have hk := ho.2.1 k (by omega) (by omega)
      have hs1 := hsn ((k - bg (S 3 p) l).toNat + 1) (by omega)
      rw [e1] at hL
      have es : sayN (S 3 p) (bg (S 3 p) l) ((k - bg (S 3 p) l).toNat + 1) = sayN (S 3 p) (bg (S 3 p) l) (k - bg (S 3 p) l).toNat ++ sep (S 3 p) (bg (S 3 p) l) k ++ pcp (S 3 p) k ((S 3 p) (125 + k)).toNat := by
        show sayN (S 3 p) (bg (S 3 p) l) (k - bg (S 3 p) l).toNat ++ sep (S 3 p) (bg (S 3 p) l) (bg (S 3 p) l + (((k - bg (S 3 p) l).toNat : Nat) : Int)) ++ pcp (S 3 p) (bg (S 3 p) l + (((k - bg (S 3 p) l).toNat : Nat) : Int)) ((S 3 p) (125 + (bg (S 3 p) l + (((k - bg (S 3 p) l).toNat : Nat) : Int)))).toNat = _
        rw [ek]
      rw [es] at hL hs1
      generalize sayN (S 3 p) (bg (S 3 p) l) (k - bg (S 3 p) l).toNat = A at hL hs1 q1 q2 q3
      rw [List.length_append, pcp_len] at hs1
      have inner : ∀ i, 0 ≤ i → i ≤ (S 3 p) (125 + k) → ∀ V' W' o7, fa [17, 18] V V' → fa [73] W W' → W' 73 = ((A ++ sep (S 3 p) (bg (S 3 p) l) k ++ pcp (S 3 p) k i.toNat).length : Int) → pf (V' 17) (A ++ sep (S 3 p) (bg (S 3 p) l) k ++ pcp (S 3 p) k i.toNat) → (∀ c, 0 ≤ c → c < 27 → V' 18 c = cn (sgn c) (A ++ sep (S 3 p) (bg (S 3 p) l) k ++ pcp (S 3 p) k i.toNat)) → am_W m_X5_write (am_ev am_prog (d + 3)) K 74 [some (.inr (.inl r)), some (.inl (p)), some (.inl (l)), some (.inl (130 + 645 * p)), some (.inl ((S 3 p) (5 + l))), some (.inl (k)), some (.inl (i)), o7] [] (mo b r (ms S) V' W') := by
        refine lp_z ?_ ?_
        · intro i f1 f2 fL V' W' o7 hV hW q1 q2 q3
          have hx := ho.2.2 k i (by omega) (by omega) f1 (by omega)
          have e2 : (i + 1).toNat = i.toNat + 1 := by omega
          have e3 : pcp (S 3 p) k (i.toNat + 1) = pcp (S 3 p) k i.toNat ++ [97 + (S 3 p) (165 + 12 * k + i)] := by
            show pcp (S 3 p) k i.toNat ++ [97 + (S 3 p) (165 + 12 * k + ((i.toNat : Nat) : Int))] = _
            have : ((i.toNat : Nat) : Int) = i := by omega
            rw [this]
          rw [e2, e3, ← List.append_assoc] at fL
          have hlB : ((A ++ sep (S 3 p) (bg (S 3 p) l) k ++ pcp (S 3 p) k i.toNat).length : Int) ≤ 420 := by
            rw [List.length_append, pcp_len]
            omega
          generalize A ++ sep (S 3 p) (bg (S 3 p) l) k ++ pcp (S 3 p) k i.toNat = B at fL q1 q2 q3 hlB
          have q3' := q3 _ hx.1 (by omega)
          have q4 := cn_bd (x := sgn ((S 3 p) (165 + 12 * k + i))) B
          refine w_write_74 ⟨by omega, fun c => absurd c (by omega), fun c => ⟨by omega, by omega, by omega, by omega, ?_⟩⟩
          refine fL _ _ _ (fa_up (fa_up hV rfl) rfl) (fa_up hW rfl) ?_ ?_ ?_
          · rw [am_up_eq, len_app1, q1]
          · rw [am_up_eq]
            exact pf_app q2 q1
          · intro c c1 c2
            rw [am_up_ne (by decide : (18 : Nat) ≠ 17), am_up_eq, cn_app]
            by_cases e : c = (S 3 p) (165 + 12 * k + i)
            · subst e
              rw [am_uz_eq, q3']
              have : (97 + (S 3 p) (165 + 12 * k + i) = sgn ((S 3 p) (165 + 12 * k + i))) := by
                unfold sgn
                rw [if_neg (by omega)]
              rw [if_pos this]
            · rw [am_uz_ne e, q3 c c1 c2]
              have : ¬ (97 + (S 3 p) (165 + 12 * k + i) = sgn c) := by
                unfold sgn
                split <;> omega
              rw [if_neg this]
              omega
        · intro V' W' o7 hV hW q1 q2 q3
          refine w_write_74 ⟨by omega, fun c => ⟨by omega, hL _ _ _ _ hV hW q1 q2 q3⟩, fun c => absurd c (by omega)⟩
      have in0 : ∀ V' W' o7, fa [17, 18] V V' → fa [73] W W' → W' 73 = ((A ++ sep (S 3 p) (bg (S 3 p) l) k).length : Int) → pf (V' 17) (A ++ sep (S 3 p) (bg (S 3 p) l) k) → (∀ c, 0 ≤ c → c < 27 → V' 18 c = cn (sgn c) (A ++ sep (S 3 p) (bg (S 3 p) l) k)) → am_W m_X5_write (am_ev am_prog (d + 3)) K 74 [some (.inr (.inl r)), some (.inl (p)), some (.inl (l)), some (.inl (130 + 645 * p)), some (.inl ((S 3 p) (5 + l))), some (.inl (k)), some (.inl (0)), o7] [] (mo b r (ms S) V' W') := by
        intro V' W' o7 hV hW q1 q2 q3
        have e0 : A ++ sep (S 3 p) (bg (S 3 p) l) k ++ pcp (S 3 p) k (0 : Int).toNat = A ++ sep (S 3 p) (bg (S 3 p) l) k := List.append_nil _
        refine inner 0 (by omega) (by omega) V' W' o7 hV hW ?_ ?_ ?_
        · rw [e0]
          exact q1
        · rw [e0]
          exact q2
        · rw [e0]
          exact q3
      have hsl : (A.length : Int) ≤ 420 := by
        rw [List.length_append] at hs1
        omega
      refine w_write_32 ⟨fun c => absurd c (by omega), fun c => ⟨by omega, fun c2 => ?_, fun c2 => ⟨by omega, fun c3 => ?_, fun c3 => ⟨by omega, by omega, ?_⟩⟩⟩⟩
      · have e5 : sep (S 3 p) (bg (S 3 p) l) k = [] := if_neg (fun z => by rw [hbg] at z; omega)
        rw [e5, List.append_nil] at in0
        exact in0 _ _ _ hV hW q1 q2 q3
      · have e5 : sep (S 3 p) (bg (S 3 p) l) k = [] := if_neg (fun z => z.2 c3)
        rw [e5, List.append_nil] at in0
        exact in0 _ _ _ hV hW q1 q2 q3
      · have e5 : sep (S 3 p) (bg (S 3 p) l) k = [32] := if_pos ⟨by rw [hbg]; exact c2, c3⟩
        rw [e5] at in0
        refine in0 _ _ _ (fa_up hV rfl) (fa_up hW rfl) ?_ ?_ ?_
        · rw [am_up_eq, len_app1, q1]
        · rw [am_up_eq]
          exact pf_app q2 q1
        · intro c c1 c2
          rw [am_up_ne (by decide : (18 : Nat) ≠ 17), cn_app, q3 c c1 c2]
          have : ¬ ((32 : Int) = sgn c) := by
            unfold sgn
            split <;> omega
          rw [if_neg this]
          omega
    · intro V' W' o6 o7 hV hW q1 q2 q3
      have e1 : ((S 3 p) (5 + l) + 1 - bg (S 3 p) l).toNat = ((S 3 p) (5 + l) + 1 - bg (S 3 p) l).toNat := rfl
      have hsl := hsn ((S 3 p) (5 + l) + 1 - bg (S 3 p) l).toNat (by omega)
      have es : lnS (S 3 p) l = sayN (S 3 p) (bg (S 3 p) l) ((S 3 p) (5 + l) + 1 - bg (S 3 p) l).toNat ++ (if ew (S 3 p) ((S 3 p) (5 + l)) then [] else [45]) := rfl
      generalize sayN (S 3 p) (bg (S 3 p) l) ((S 3 p) (5 + l) + 1 - bg (S 3 p) l).toNat = A at q1 q2 q3 hsl es
      refine w_write_32 ⟨fun c => ⟨by omega, fun c2 => ?_, fun c2 => ?_⟩, fun c => absurd c (by omega)⟩
      · rw [if_neg c2] at es
        have q26 := q3 26 (by omega) (by omega)
        have q27 := cn_bd (x := sgn 26) A
        refine ⟨by omega, by omega, by omega, H _ _ (fa_up (fa_up hV rfl) rfl) (fa_up hW rfl) ?_ ?_ ?_⟩
        · rw [am_up_eq, es, len_app1, q1]
        · rw [am_up_eq, es]
          exact pf_app q2 q1
        · intro c c1 c3
          rw [am_up_ne (by decide : (18 : Nat) ≠ 17), am_up_eq, es, cn_app]
          by_cases e : c = 26
          · subst e
            rw [am_uz_eq, q26]
            have : (45 : Int) = sgn 26 := rfl
            rw [if_pos this]
          · rw [am_uz_ne e, q3 c c1 c3]
            have : ¬ ((45 : Int) = sgn c) := by
              unfold sgn
              split <;> omega
            rw [if_neg this]
            omega
      · rw [if_pos c2, List.append_nil] at es
        rw [es] at H
        exact H V' W' hV hW q1 q2 q3
  have main1 : ∀ k, 0 ≤ k → k ≤ 27 → ∀ V', fa [17, 18] V V' → (∀ c, 0 ≤ c → c < k → V' 18 c = 0) → ∀ o6 o7, am_W m_X5_write (am_ev am_prog (d + 3)) K 17 [some (.inr (.inl r)), some (.inl (p)), some (.inl (l)), some (.inl (130 + 645 * p)), some (.inl ((S 3 p) (5 + l))), some (.inl (k)), o6, o7] [] (mo b r (ms S) V' (am_up W 73 0)) := by
    refine lp_z ?_ ?_
    · intro k g1 g2 hL V' hV q o6 o7
      refine w_write_17 ⟨fun c => absurd c (by omega), fun c => ⟨by omega, by omega, ?_⟩⟩
      refine hL _ (fa_up hV rfl) ?_ _ _
      intro c c1 c2
      rw [am_up_eq]
      by_cases e : c = k
      · subst e
        exact am_uz_eq
      · rw [am_uz_ne e]
        exact q c c1 (by omega)
    · intro V' hV q o6 o7
      refine w_write_17 ⟨fun c => ⟨by omega, ?_⟩, fun c => absurd c (by omega)⟩
      have e0 : sayN (S 3 p) (bg (S 3 p) l) (bg (S 3 p) l - bg (S 3 p) l).toNat = [] := by
        have : (bg (S 3 p) l - bg (S 3 p) l).toNat = 0 := by omega
        rw [this]
        rfl
      have m2 := main2 (bg (S 3 p) l) (by omega) (by omega) V' (am_up W 73 0) o6 o7 hV (fa_up fa_refl rfl)
      rw [e0] at m2
      exact m2 am_up_eq pf_nil (fun c c1 c2 => q c c1 c2)
  exact main1 0 (by omega) (by omega) V fa_refl (fun c c1 c2 => absurd c2 (by omega)) _ _
end
