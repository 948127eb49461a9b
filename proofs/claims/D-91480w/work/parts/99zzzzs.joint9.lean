set_option maxRecDepth 100000
section
variable {h h' : am_H} {x P r o s : Nat} {sc : Int → Int} {ns : Int} {Z U c : Nat}
theorem J_slip {K : am_K} {a1 a2 a3 : Int} {D : Nat} (hD : 110 ≤ D) (hc : c ≤ 64) (hi1 : (-2147483648 ≤ a1 ∧ a1 ≤ 2147483647)) (hi2 : (-2147483648 ≤ a2 ∧ a2 ≤ 2147483647)) (hi3 : (-2147483648 ≤ a3 ∧ a3 ≤ 2147483647)) (js : JS x P r o s sc ns Z U c h) (H : ∀ kk h1, JG x P r o s sc ns Z U c 92 [.inl a1, .inl a2, .inl a3] (PB r o kk) h1 → K (.inl (some (.inl (kk)))) h1) : am_ev am_prog D 59 [.inr (.inl x), .inl a1, .inl a2, .inl a3, .inr (.inl o)] h K := by
  obtain ⟨L, N, I, S, SI, B, BI, t, n, V, W, u⟩ := js
  have j1 := u.1.1
  have nt := u.1.2.1
  have oi := u.2.1
  have hC := oi.1.1.1
  have hG := oi.1.1.2.2.1
  have hT := oi.2.2.1.2.2.2
  obtain ⟨d, rfl⟩ : ∃ d, D = d + 13 := ⟨D - 13, by omega⟩
  refine am_en p_X0_slip rfl rfl ?_
  refine v_X0_slip_0 ⟨j1.1.1, X_slip (by omega) nt j1.1.1 j1.2.1.2.1 hC j1.1.2.1 j1.1.2.2 (by have := u.2.2.2.2.1.1; omega) hG hT (fun g0 h' q nt' ot ty => am_ah (by rw [ty]; rfl) (v_X0_slip_13 (H _ _ (JE_tb (a := 0) u nt' ot (by decide) (by decide) (by decide) (fun b K2 D hD hm => M_slip hD hC hG hT hi2.2 (fun _ => hm) (fun g => absurd g g0) (fun g => absurd g g0)))))) (fun g0 p gp g h' q nt' ot ty => am_ah (by rw [ty]; rfl) (v_X0_slip_16 (H _ _ (JE_tb (a := 0) u nt' ot (by decide) (by decide) (by decide) (fun b K2 D hD hm => M_slip hD hC hG hT hi2.2 (fun y => absurd g0 y) (fun _ p' gp' _ => hm) (fun _ p' gp' n1 n2 => ?_)))))) (fun g0 p gp g1 g2 h' L' nt' ot => am_av (v_X0_slip_7 (JE_b u nt' ot (by decide) (by decide) (by omega) (I_slip ?_ g2 oi) (Int.le_trans (unT_c5 (u3_r (by decide)) (u3_r (by decide))) (by omega)) am_b_or (fun b K2 D hD hm => M_slip hD hC hG hT hi2.2 (fun y => absurd g0 y) (fun _ p' gp' y => ?_) (fun _ p' gp' _ _ => ?_)) H)))⟩
  · rw [slP_f2 gp gp'] at n1
    rcases g with g | g
    · exact absurd g n1
    · exact absurd n2 g
  · rcases gp with e | e
    · exact absurd e.1 g1
    · exact e.1.1
  · rw [slP_f2 gp gp'] at y
    rcases y with y | y
    · exact absurd y g1
    · exact absurd g2 y
  · rw [slP_f2 gp gp']
    exact hm
/-- a state that is only named -/
def mcZ (S : am_G) (v w : Int) : am_G := fun c q o => if c = 5 ∧ q = S 0 0 3 then (if 28 ≤ o then 0 else if o = 27 then w else v) else if c = 0 ∧ q = 0 ∧ o = 3 then S 0 0 3 + 1 else S c q o
theorem mcZ_v {S : am_G} {v w : Int} : (∀ c, c ≠ 5 → c ≠ 0 → mcZ S v w c = S c) ∧ (∀ j, j ≠ 3 → mcZ S v w 0 0 j = S 0 0 j) ∧ mcZ S v w 0 0 3 = (S 0 0 3) + 1 ∧ (∀ q, q ≠ (S 0 0 3) → mcZ S v w 5 q = S 5 q) ∧ (∀ c, 0 ≤ c → c < 27 → mcZ S v w 5 (S 0 0 3) c = v) ∧ mcZ S v w 5 (S 0 0 3) 27 = w ∧ (∀ o, 28 ≤ o → mcZ S v w 5 (S 0 0 3) o = 0) := by
  refine ⟨fun c a b => ?_, fun j hj => ?_, ?_, fun q hq => ?_, fun c a b => ?_, ?_, fun o ho => ?_⟩
  · funext q o
    unfold mcZ
    rw [if_neg (fun e => a e.1), if_neg (fun e => b e.1)]
  · unfold mcZ
    rw [if_neg (fun e => absurd e.1 (by decide)), if_neg (fun e => hj e.2.2)]
  · unfold mcZ
    rw [if_neg (fun e => absurd e.1 (by decide)), if_pos ⟨rfl, rfl, rfl⟩]
  · funext o
    unfold mcZ
    rw [if_neg (fun e => hq e.2), if_neg (fun e => absurd e.1 (by decide))]
  · unfold mcZ
    rw [if_pos ⟨rfl, rfl⟩, if_neg (by omega), if_neg (by omega)]
  · unfold mcZ
    rw [if_pos ⟨rfl, rfl⟩, if_neg (by decide), if_pos rfl]
  · unfold mcZ
    rw [if_pos ⟨rfl, rfl⟩, if_pos ho]
theorem J_machine {K : am_K} {a1 a2 : Int} {D : Nat} (hD : 110 ≤ D) (hc : c ≤ 64) (hi1 : (-2147483648 ≤ a1 ∧ a1 ≤ 2147483647)) (hi2 : (-2147483648 ≤ a2 ∧ a2 ≤ 2147483647)) (js : JS x P r o s sc ns Z U c h) (H : ∀ kk h1, JM x P r o s sc ns Z U c 74 [.inl a1, .inl a2] kk h1 → K (.inl (some (.inl (kk)))) h1) : am_ev am_prog D 34 [.inr (.inl x), .inl a1, .inl a2, .inr (.inl o)] h K := by
  obtain ⟨L, N, I, S, SI, B, BI, t, n, V, W, u⟩ := js
  have j1 := u.1.1
  have nt := u.1.2.1
  have oi := u.2.1
  have hC := oi.1.1.1
  have hB0 : 0 ≤ B := by
    have q := nt.2.2.2.1.2.2.2.2.2.1.1.2.2.2.2.2
    omega
  obtain ⟨d, rfl⟩ : ∃ d, D = d + 13 := ⟨D - 13, by omega⟩
  refine am_en p_X0_machine rfl rfl ?_
  have t0 : ¬ ((0 ≤ a1 ∧ a1 ≤ 40) ∧ (0 ≤ a2 ∧ a2 ≤ 9)) → XT h L x P N S B (am_aft (am_hand m_X0_machine K (am_W m_X0_machine (am_ev am_prog (d + 12)) K) 5) (am_W m_X0_machine (am_ev am_prog (d + 12)) K) 5 [some (.inr (.inl x)), some (.inl a1), some (.inl a2), some (.inr (.inl o)), none] [.inl 0, .inr (.inl o)]) 35 := fun g0 h' q nt' ot ty => am_ah (by rw [ty]; rfl) (v_X0_machine_9 (H _ _ (JE_t (a := 0) u nt' ot (by decide) (by decide) (by decide) (fun b K2 D hD hm => M_machine hD hC (fun _ => hm) (fun g => absurd g g0) (fun g => absurd g g0)))))
  have t1 : (0 ≤ a1 ∧ a1 ≤ 40) ∧ (0 ≤ a2 ∧ a2 ≤ 9) → S 0 0 3 = 4 → XT h L x P N S B (am_aft (am_hand m_X0_machine K (am_W m_X0_machine (am_ev am_prog (d + 12)) K) 5) (am_W m_X0_machine (am_ev am_prog (d + 12)) K) 5 [some (.inr (.inl x)), some (.inl a1), some (.inl a2), some (.inr (.inl o)), none] [.inl 0, .inr (.inl o)]) 37 := fun g0 g1 h' q nt' ot ty => am_ah (by rw [ty]; rfl) (v_X0_machine_12 (H _ _ (JE_t (a := 0) u nt' ot (by decide) (by decide) (by decide) (fun b K2 D hD hm => M_machine hD hC (fun g => absurd g0 g) (fun _ _ => hm) (fun _ g => absurd g1 g)))))
  refine v_X0_machine_0 ⟨j1.1.1, ?_⟩
  have bB : B ≤ 1000000 := by have := u.2.2.2.2.1.1; omega
  by_cases h4 : S 0 0 3 = 4
  · have e := mcZ_v (S := S) (v := a1) (w := a2)
    exact X_machine (S' := mcZ S a1 a2) (by omega) nt j1.1.1 j1.2.1.2.1 hC j1.1.2.1 j1.1.2.2 bB e.1 e.2.1 e.2.2.1 e.2.2.2.1 e.2.2.2.2.1 e.2.2.2.2.2.1 ⟨e.2.2.2.2.2.2 _ (by decide), e.2.2.2.2.2.2 _ (by decide), e.2.2.2.2.2.2 _ (by decide), e.2.2.2.2.2.2 _ (by decide), e.2.2.2.2.2.2 _ (by decide)⟩ t0 t1 (fun _ g => absurd h4 g) hB0
  · have e := mcS_v (S := S) (v := a1) (w := a2)
    have c3 := hC.2.2.1
    have z := oi.2.2.2.1 (S 0 0 3) (Int.le_refl _) (by omega)
    exact X_machine (S' := mcS S a1 a2) (by omega) nt j1.1.1 j1.2.1.2.1 hC j1.1.2.1 j1.1.2.2 bB e.1 e.2.1 e.2.2.1 e.2.2.2.1 e.2.2.2.2.1 e.2.2.2.2.2.1 ⟨(e.2.2.2.2.2.2 _ (by decide)).trans z.1, (e.2.2.2.2.2.2 _ (by decide)).trans z.2.1, (e.2.2.2.2.2.2 _ (by decide)).trans z.2.2.1, (e.2.2.2.2.2.2 _ (by decide)).trans z.2.2.2.1, (e.2.2.2.2.2.2 _ (by decide)).trans z.2.2.2.2⟩ t0 t1 (fun g0 g1 h' L' nt' ot => am_av (v_X0_machine_6 (JE_k u nt' ot (by decide) (by decide) (by omega) (I_machine g0 g1 oi) (Int.le_trans unT_machine (by omega)) (fun b K2 D hD hm => M_machine hD hC (fun g => absurd g0 g) (fun _ g => absurd g g1) (fun _ _ => hm)) H))) hB0
theorem J_edition {K : am_K} {D : Nat} (hD : 110 ≤ D) (hc : c ≤ 64) (js : JS x P r o s sc ns Z U c h) (H : ∀ kk h1, JM x P r o s sc ns Z U c 14 [] kk h1 → K (.inl (some (.inl (kk)))) h1) : am_ev am_prog D 8 [.inr (.inl x), .inr (.inl o)] h K := by
  obtain ⟨L, N, I, S, SI, B, BI, t, n, V, W, u⟩ := js
  have j1 := u.1.1
  have nt := u.1.2.1
  have oi := u.2.1
  have hC := oi.1.1.1
  have bB : B ≤ 1000000 := by have := u.2.2.2.2.1.1; omega
  have h8 : ∀ p, 0 ≤ p → p < 6 → 0 ≤ S 8 p 2 ∧ S 8 p 2 ≤ 180 := fun p a b => (oi.2.2.1.1 p a b).2.2
  obtain ⟨d, rfl⟩ : ∃ d, D = d + 13 := ⟨D - 13, by omega⟩
  refine am_en p_X0_edition rfl rfl ?_
  have e := edF_v (S := S)
  exact v_X0_edition_0 ⟨j1.1.1, X_edition (S' := edF S) (by omega) nt j1.1.1 j1.2.1.2.1 hC j1.1.2.1 j1.1.2.2 bB e.1 e.2.1 e.2.2.1 e.2.2.2.1 (fun p a b => e.2.2.2.2 p a b (h8 p a b).1) (fun g0 h' q nt' ot ty => am_ah (by rw [ty]; rfl) (v_X0_edition_7 (H _ _ (JE_t (a := 0) u nt' ot (by decide) (by decide) (by decide) (fun b K2 D hD hm => M_edition hD hC h8 (fun _ => hm) (fun g => absurd g0 g)))))) (fun g0 h' L' nt' ot => am_av (v_X0_edition_4 (JE_k u nt' ot (by decide) (by decide) (by omega) (I_edition g0 oi) (Int.le_trans (unT_c5 (e.1 5 (by decide) (by decide)) (e.1 3 (by decide) (by decide))) (by omega)) (fun b K2 D hD hm => M_edition hD hC h8 (fun g => absurd g g0) (fun _ => hm)) H)))⟩
theorem capB_b {L : am_Lb} {N : Nat} {S : am_G} {B : Int} (t : Nt h L x P N S B) : 0 ≤ capB h P ∧ capB h P ≤ 1000 := by
  obtain ⟨_, _, _, _, _, _, l1, l, xb, _⟩ := t.2.2.1
  unfold capB
  have q := xb.2.2.2.2.1.1
  omega
theorem mins_a {z z' g g' b b' s s' u u' : Int} (w : z' + g + b ≤ z + g' + b' + (s' - s) + 100 * (u - u')) (h1 : 0 ≤ g) (h2 : g' ≤ 1000) (h3 : 0 ≤ b) (h4 : b' ≤ 1000) (h5 : 0 ≤ s) (h6 : s' ≤ 300) (h7 : 0 ≤ u') (h8 : u ≤ 64) : z' ≤ z + 9400 := by omega
theorem mins_b {z z' g g' b b' s s' u u' : Int} (w : z' + 5 * g + 2 * b ≤ z + 5 * g' + 2 * b' + 11 * (s' - s) + 1100 * (u - u')) (h1 : 0 ≤ g) (h2 : g' ≤ 1000) (h3 : 0 ≤ b) (h4 : b' ≤ 1000) (h5 : 0 ≤ s) (h6 : s' ≤ 300) (h7 : 0 ≤ u') (h8 : u ≤ 64) : z' ≤ z + 96000 := by omega
theorem mins_c {z z' : Nat} {k : Nat} (h : (z' : Int) ≤ z + k) : z' - z ≤ k := by omega
theorem J_minutes {K : am_K} {a1 : Int} {D : Nat} (hD : 110 ≤ D) (hc : c ≤ 64) (hi1 : (-2147483648 ≤ a1 ∧ a1 ≤ 2147483647)) (js : JS x P r o s sc ns Z U c h) (H : ∀ kk h1, JM x P r o s sc ns Z U c 45 [.inl a1] kk h1 → K (.inl (some (.inl (kk)))) h1) : am_ev am_prog D 18 [.inr (.inl x), .inl a1, .inr (.inl o)] h K := by
  obtain ⟨L, N, I, S, SI, B, BI, t, n, V, W, u⟩ := js
  have j1 := u.1.1
  have nt := u.1.2.1
  have oi := u.2.1
  have hC := oi.1.1.1
  have bB : B + 960 ≤ 1000000 := by have := u.2.2.2.2.1.1; omega
  obtain ⟨d, rfl⟩ : ∃ d, D = d + 13 := ⟨D - 13, by omega⟩
  refine am_en p_X0_minutes rfl rfl ?_
  refine v_X0_minutes_0 ⟨j1.1.1, X_minutes (D := d + 10) (by omega) nt j1.1.1 j1.2.1.2.1 hC j1.1.2.1 j1.1.2.2 (by omega) bB oi.1 oi.2.1 (fun g0 h' q nt' ot ty => am_ah (by rw [ty]; rfl) (v_X0_minutes_8 (H _ _ (JE_t (a := 0) u nt' ot (by decide) (by decide) (by decide) (fun b K2 D hD hm => M_minutes hD oi.1 (fun _ => hm) (fun g => absurd g g0)))))) (fun g0 S' h' L' mr nt' ot co => am_av (v_X0_minutes_5 ?_))⟩
  have oi' := I_minutes oi _ _ mr
  have g1 := capG_b nt.2.2.2.1
  have g2 := capG_b nt'.2.2.2.1
  have b1 := capB_b nt
  have b2 := capB_b nt'
  have s1 := oi.1.1.2.2.1.1
  have s2 := oi'.1.1.2.2.1.1
  have u2 := unT_0 (S := S')
  have u1 : unT S ≤ 64 := by have := u.2.2.2.2.1.2.1; omega
  exact JE_k u nt' ot (mins_c (mins_a co.1 g1.1 g2.2 b1.1 b2.2 s1.1 s2.2 u2 u1)) (mins_c (mins_b co.2.1 g1.1 g2.2 b1.1 b2.2 s1.1 s2.2 u2 u1)) (by omega) oi' (by have := co.2.2; omega) (fun b K2 D hD hm => M_minutes hD oi.1 (fun g => absurd g0 g) (fun _ S2 m2 => by rw [← mnsR_f _ _ _ mr m2]; exact hm)) H
theorem okMs_ah {S : am_G} {k : Int} (hk : k = -1 ∨ (0 ≤ k ∧ k < S 0 0 3)) (oi : okI S) : okMs (ah0 S k) := by
  unfold ah0
  split
  · exact oi.1
  · exact (I_5o (hk.resolve_left (by assumption)) (Or.inr ⟨rfl, Or.inr rfl⟩) oi).1
theorem ahd_a {z z' b b' u u' : Int} (w : z' + b ≤ z + 1900 + 100 * u' + b') (h3 : 0 ≤ b) (h4 : b' ≤ 1000) (h7 : u' ≤ u) (h8 : u ≤ 64) : z' ≤ z + 9400 := by omega
theorem ahd_b {z z' b b' u u' : Int} (w : z' + 2 * b ≤ z + 17300 + 1100 * u' + 2 * b') (h3 : 0 ≤ b) (h4 : b' ≤ 1000) (h7 : u' ≤ u) (h8 : u ≤ 64) : z' ≤ z + 96000 := by omega
theorem J_ahead {K : am_K} {a1 : Int} {D : Nat} (hD : 110 ≤ D) (hc : c ≤ 64) (hi1 : (-2147483648 ≤ a1 ∧ a1 ≤ 2147483647)) (js : JS x P r o s sc ns Z U c h) (H : ∀ kk h1, JM x P r o s sc ns Z U c 48 [.inl a1] kk h1 → K (.inl (some (.inl (kk)))) h1) : am_ev am_prog D 21 [.inr (.inl x), .inl a1, .inr (.inl o)] h K := by
  obtain ⟨L, N, I, S, SI, B, BI, t, n, V, W, u⟩ := js
  have j1 := u.1.1
  have nt := u.1.2.1
  have oi := u.2.1
  have hC := oi.1.1.1
  obtain ⟨d, rfl⟩ : ∃ d, D = d + 13 := ⟨D - 13, by omega⟩
  refine am_en p_X0_ahead rfl rfl ?_
  refine v_X0_ahead_0 ⟨j1.1.1, X_ahead (by omega) nt j1.1.1 j1.2.1.2.1 j1.1.2.1 j1.1.2.2 j1.2.2.2.2.2.1.1 oi.1 oi.2.1 (fun g0 h' q nt' ot ty => am_ah (by rw [ty]; rfl) (v_X0_ahead_8 (H _ _ (JE_t (a := 0) u nt' ot (by decide) (by decide) (by decide) (fun b K2 D hD hm => M_ahead hD oi.1 (fun _ => hm) (fun g => absurd g g0)))))) (fun g0 k Sn mx en oks a e1 e2 h' L' nt' ot cz cu => am_av (v_X0_ahead_5 ?_))⟩
  have b1 := capB_b nt
  have b2 := capB_b nt'
  have u1 : unT S ≤ 64 := by have := u.2.2.2.2.1.2.1; omega
  have ua := unT_ah (S := S) (k := a1)
  refine JE_k u nt' ot (mins_c (ahd_a cz b1.1 b2.2 ua u1)) (mins_c (ahd_b cu b1.1 b2.2 ua u1)) (by omega) oi (by omega) (fun b K2 D hD hm => M_ahead hD oi.1 (fun g => absurd g0 g) (fun _ k2 S2 mc ec => ?_)) H
  have q := ah_eq (okMs_ah g0 oi) oks mc ec mx en
  by_cases ci : idl Sn
  · rw [q.1 ci, ← e1 ci]
    exact hm
  · rw [q.2 ci, ← e2 ci]
    exact hm
end
