set_option maxRecDepth 100000
section
variable {S : am_G}
theorem slR_f {s w a a' : Int} (h : slR S s w a) (g : slR S s w a') : a' = a := by
  by_cases c : w = 8
  · have h2 := h.2 c
    have g2 := g.2 c
    rcases h2 with ⟨h3, h4⟩ | ⟨h3, h4⟩ <;> rcases g2 with ⟨g3, g4⟩ | ⟨g3, g4⟩
    · omega
    · exact absurd h3 g3
    · exact absurd g3 h3
    · omega
  · have h2 := h.1 c
    have g2 := g.1 c
    omega
theorem jdR_f {p a a' : Int} (h : jdR S p a) (g : jdR S p a') : a' = a := by
  rcases h with ⟨h1, h2⟩ | ⟨h1, h2, h3⟩ <;> rcases g with ⟨g1, g2⟩ | ⟨g1, g2, g3⟩
  · omega
  · exact absurd (h2 a' g1.1 g1.2) g2
  · exact absurd (g2 a h1.1 h1.2) h2
  · by_cases c : a' < a
    · exact absurd (h3 a' g1.1 c) g2
    · by_cases c2 : a < a'
      · exact absurd (g3 a h1.1 c2) h2
      · omega
theorem ckR_f2 {a a' : Int} (h : ckR S a) (g : ckR S a') : a' = a := by
  rcases h with ⟨h1, h2⟩ | ⟨i, k, h1, h2, h3, h4, h5⟩ <;> rcases g with ⟨g1, g2⟩ | ⟨j, q, g1, g2, g3, g4, g5⟩
  · omega
  · exact absurd (h2 j q g1.1 g1.2 g2.1 g2.2) g4
  · exact absurd (g2 i k h1.1 h1.2 h2.1 h2.2) h4
  · by_cases c : a' < a
    · exact absurd (h5 j q g1.1 g2.1 g2.2 (by omega)) g4
    · by_cases c2 : a < a'
      · exact absurd (g5 i k h1.1 h2.1 h2.2 (by omega)) h4
      · omega
theorem sg_mn {f : Int → Int} (hf : ∀ j, 0 ≤ f j) {q : Int} (hq : 0 ≤ q) : ∀ d : Nat, sg f 0 q.toNat ≤ sg f 0 (q + (d : Int)).toNat
  | 0 => by
    have e : q + ((0 : Nat) : Int) = q := by omega
    rw [e]
    exact Int.le_refl _
  | d + 1 => by
    have a := sg_mn hf hq d
    have e : q + ((d + 1 : Nat) : Int) = q + d + 1 := by omega
    have b := hf (q + d)
    rw [e, sg_s (by omega)]
    omega
theorem slP_l {s k p q : Int} (hp : 0 ≤ p) (l : 97 ≤ S 4 s (432 + p)) (e : sg (slB S s) 0 p.toNat = k) (e' : sg (slB S s) 0 q.toNat = k) (c : p < q) : False := by
  have nn : ∀ j, 0 ≤ slB S s j := fun j => by
    unfold slB am_b
    split <;> decide
  have a := sg_mn nn (q := p + 1) (by omega) (q - (p + 1)).toNat
  have e1 : p + 1 + ((q - (p + 1)).toNat : Int) = q := by omega
  have e2 : slB S s p = 1 := by
    unfold slB am_b
    rw [if_pos l]
  rw [e1, sg_s hp, e2] at a
  omega
theorem slP_f2 {s k p q : Int} (h : slP S s k p) (g : slP S s k q) : q = p := by
  rcases h with ⟨h1, h2⟩ | ⟨h1, h2, h3⟩ <;> rcases g with ⟨g1, g2⟩ | ⟨g1, g2, g3⟩
  · omega
  · exact absurd g3 (h2 q g1.1 g1.2 g2)
  · exact absurd h3 (g2 p h1.1 h1.2 h2)
  · by_cases c : p < q
    · exact (slP_l h1.1 h2 h3 g3 c).elim
    · by_cases c2 : q < p
      · exact (slP_l g1.1 g2 g3 h3 c2).elim
      · omega
end
theorem am_b_or {c : Prop} [Decidable c] : am_b c = 0 ∨ am_b c = 1 := by
  unfold am_b
  split
  · exact Or.inr rfl
  · exact Or.inl rfl
section
variable {K : am_K} {b : am_H} {r : Nat} {S : am_G} {V : Nat → Int → Int} {W : Nat → Int}
theorem M_hand {p w : Int} {D : Nat} (hD : 90 ≤ D) (hC : okC S) (hi : -2147483648 ≤ p ∧ p ≤ 2147483647) (hF : okF S) (hA : okA S) (hY : okY S) (hW : okWs S) (H0 : ¬ isP S p → MR b r K S V W 1 (0)) (H1 : isP S p → MR b r K S V W 0 (hdR S p w)) : am_ev am_prog D 81 [.inr (.inl r), .inl p, .inl w] (mo b r (ms S) V W) K := by
  refine c_hand (by omega) hi hY hC.2.1.2 (fun ip => ?_) (fun c => MR_up (H0 c)) (fun ip V' W' hV hWf w38 => H1 ip V' W' ⟨hV 2 rfl, hV 4 rfl, ⟨hV 5 rfl, hV 6 rfl, hV 7 rfl⟩, hWf 42 rfl, hWf 44 rfl, hWf 47 rfl⟩ w38)
  have pb := isP_bd hC hF ip
  exact ⟨pb.1, pb.2.2.1, (hA p ip).1, hW _ pb.2.2.1.1 pb.2.2.1.2⟩
end
section
variable {S : am_G}
theorem unT_pie {s : Int} (hs : 0 ≤ s ∧ s < S 0 0 4) (h4 : S 4 s 4 = 0) (h : okI S) : unT (u3 (u3 (u3 (u3 S 3 (S 4 s 6) (45 + S 4 s 5) 0) 4 s 4 1) 4 s 5 (-1)) 4 s 6 (-1)) ≤ unT S := by
  have g := ((h.1.1.2.2.2.2.2.2.2.1 s hs.1 hs.2).2.2.2.2.2 h4).2.2.1.1
  refine unT_c ((u3_r (by decide)).trans ((u3_r (by decide)).trans ((u3_r (by decide)).trans (u3_r (by decide))))) (fun p => ?_)
  rw [u3_nc (by decide), u3_nc (by decide), u3_nc (by decide), u3_no (by omega)]
theorem unT_change {s q : Int} (hs : 0 ≤ s ∧ s < S 0 0 4) (hq : 0 ≤ q ∧ q < S 0 0 4) (h4 : S 4 s 4 = 0) (h4' : S 4 q 4 = 0) (h : okI S) : unT (u3 (u3 (u3 (u3 (u3 (u3 S 4 s 5 (S 4 q 5)) 4 s 6 (S 4 q 6)) 3 (S 4 q 6) (45 + S 4 q 5) (s + 1)) 4 q 5 (S 4 s 5)) 4 q 6 (S 4 s 6)) 3 (S 4 s 6) (45 + S 4 s 5) (q + 1)) ≤ unT S := by
  have g := ((h.1.1.2.2.2.2.2.2.2.1 s hs.1 hs.2).2.2.2.2.2 h4).2.2.1.1
  have g' := ((h.1.1.2.2.2.2.2.2.2.1 q hq.1 hq.2).2.2.2.2.2 h4').2.2.1.1
  refine unT_c ((u3_r (by decide)).trans ((u3_r (by decide)).trans ((u3_r (by decide)).trans ((u3_r (by decide)).trans ((u3_r (by decide)).trans (u3_r (by decide))))))) (fun p => ?_)
  rw [u3_no (by omega), u3_nc (by decide), u3_nc (by decide), u3_no (by omega), u3_nc (by decide), u3_nc (by decide)]
theorem lkS_r {pg : Int} {l : List Int} {c : Nat} (hc : c ≠ 8) : lkS S pg l c = S c := by
  unfold lkS
  rw [u3_r hc, u3_r hc, u3_r hc]
  funext p o
  unfold wrL
  exact if_neg (fun e => hc e.1)
theorem unT_lock {pg : Int} {l : List Int} : unT (lkS S pg l) ≤ unT S := unT_c5 (lkS_r (by decide)) (lkS_r (by decide))
end
