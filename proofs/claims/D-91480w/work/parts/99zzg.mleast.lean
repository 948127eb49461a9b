set_option maxRecDepth 100000
/-! the least lateness -/
/-- lines that a part would have -/
def bsL (S : am_G) (p : Int) : Int := if (tbS S p (S 0 0 0) 0).1 = -1 then 0 else (tbS S p (S 0 0 0) 0).2.1
/-- lines that a job has before it -/
def jbL (S : am_G) (k i : Int) : Int := if (S 5 k (37 + 5 * i)) = 0 then (S 5 k (35 + 5 * i)) - (S 5 k (34 + 5 * i)) else if S 3 (S 5 k (33 + 5 * i)) 3 = 0 then bsL S (S 5 k (33 + 5 * i)) else S 3 (S 5 k (33 + 5 * i)) 4 - (S 5 k (34 + 5 * i))
def quL (S : am_G) (k : Int) : Int := sg (jbL S k) 0 (S 5 k 29).toNat
/-- parts to plan -/
def plS (S : am_G) : Nat → List Int
  | 0 => []
  | p + 1 => if (plS S p).length < 5 ∧ (0 ≤ (p : Int) ∧ (p : Int) / 5 < S 0 0 1 ∧ (p : Int) % 5 < S 2 2 ((p : Int) / 5)) ∧ S 3 (p : Int) 2 = 0 ∧ bsL S (p : Int) ≠ 0 then plS S p ++ [(p : Int)] else plS S p
theorem plS_5 {S : am_G} : ∀ p, (plS S p).length ≤ 5
  | 0 => Nat.zero_le 5
  | p + 1 => by
    have ih := plS_5 (S := S) p
    show (if _ then _ else _ : List Int).length ≤ 5
    by_cases c : (plS S p).length < 5 ∧ (0 ≤ (p : Int) ∧ (p : Int) / 5 < S 0 0 1 ∧ (p : Int) % 5 < S 2 2 ((p : Int) / 5)) ∧ S 3 (p : Int) 2 = 0 ∧ bsL S (p : Int) ≠ 0
    · rw [if_pos c, List.length_append]
      have := c.1
      show _ + 1 ≤ 5
      omega
    · rw [if_neg c]
      exact ih
theorem plS_top {S : am_G} {p : Nat} (h : 5 ≤ (plS S p).length) : ∀ k, plS S (p + k) = plS S p
  | 0 => rfl
  | k + 1 => by
    have ih := plS_top h k
    have e : plS S (p + (k + 1)) = plS S (p + k) := if_neg (fun z => by
      have := z.1
      change (plS S (p + k)).length < 5 at this
      rw [ih] at this
      omega)
    rw [e, ih]
theorem plS_m {S : am_G} : ∀ (p : Nat) (q : Int), q ∈ plS S p → (0 ≤ q ∧ q / 5 < S 0 0 1 ∧ q % 5 < S 2 2 (q / 5)) ∧ S 3 q 2 = 0 ∧ bsL S q ≠ 0
  | 0, q, h => absurd h (List.not_mem_nil)
  | p + 1, q, h => by
    have e : plS S (p + 1) = if (plS S p).length < 5 ∧ (0 ≤ (p : Int) ∧ (p : Int) / 5 < S 0 0 1 ∧ (p : Int) % 5 < S 2 2 ((p : Int) / 5)) ∧ S 3 (p : Int) 2 = 0 ∧ bsL S (p : Int) ≠ 0 then plS S p ++ [(p : Int)] else plS S p := rfl
    rw [e] at h
    by_cases c : (plS S p).length < 5 ∧ (0 ≤ (p : Int) ∧ (p : Int) / 5 < S 0 0 1 ∧ (p : Int) % 5 < S 2 2 ((p : Int) / 5)) ∧ S 3 (p : Int) 2 = 0 ∧ bsL S (p : Int) ≠ 0
    · rw [if_pos c] at h
      rcases List.mem_append.mp h with h | h
      · exact plS_m p q h
      · have : q = (p : Int) := by simpa using h
        rw [this]
        exact c.2
    · rw [if_neg c] at h
      exact plS_m p q h
def mx0 (d : Int) : Int := if 0 < d then d else 0
/-- the search: how late at the least -/
def plR (P : Nat) (ln du fl : Int → Int) : Nat → Nat → (Int → Int) → Int → Int → Int
  | 0, _, _, late, best => if best ≠ -1 ∧ best ≤ late then best else late
  | k + 1, m, fr, late, best => if best ≠ -1 ∧ best ≤ late then best else upL (fun i s => if m / 2 ^ i % 2 = 1 then s else upL (fun c s => if fl (c : Int) = 0 then s else plR P ln du fl k (m ||| 2 ^ i) (am_uz fr (c : Int) (fr (c : Int) + ln (i : Int))) (late + mx0 (fr (c : Int) + ln (i : Int) - du (i : Int))) s) 4 s) P best
theorem upL_top {α : Type} {f : Nat → α → α} {s : α} {M : Nat} : ∀ k, (∀ c, M ≤ c → c < M + k → ∀ s, f c s = s) → upL f (M + k) s = upL f M s
  | 0, _ => rfl
  | k + 1, h => by
    show f (M + k) (upL f (M + k) s) = _
    rw [h (M + k) (by omega) (by omega), upL_top k (fun c a b s => h c a (by omega) s)]
theorem msk_k : ∀ P : Fin 6, ∀ m : Fin 32, ∀ i : Fin 5, m.val < 2 ^ P.val → i.val < P.val → m.val / 2 ^ i.val % 2 ≠ 1 → (m.val ||| 2 ^ i.val) < 2 ^ P.val ∧ bcn (m.val ||| 2 ^ i.val) P.val = bcn m.val P.val + 1 := by decide +kernel
theorem msk_f : ∀ P : Fin 6, ∀ m : Fin 32, m.val < 2 ^ P.val → ((bcn m.val P.val = P.val → m.val = 2 ^ P.val - 1) ∧ (m.val = 2 ^ P.val - 1 → bcn m.val P.val = P.val)) := by decide +kernel
theorem msk_o : ∀ m : Fin 32, ∀ i : Fin 5, am_orz (m.val : Int) (am_shlz 1 (i.val : Int)) = ((m.val ||| 2 ^ i.val : Nat) : Int) := by decide +kernel
theorem p5 {P : Nat} (h : P ≤ 5) : 2 ^ P ≤ 32 := Nat.le_trans (Nat.pow_le_pow_right (by omega) h) (by decide)
theorem bsL_b {S : am_G} {p : Int} (hC : okC S) (hF : okF S) (hA : okA S) (hY : okY S) (hW : okWs S) (ip : isP S p) : (0 ≤ bsL S p ∧ bsL S p ≤ 40) ∧ (bsL S p = 0 ↔ (tbS S p (S 0 0 0) 0).1 = -1) := by
  have pb := isP_bd hC hF ip
  have ap := hA p ip
  have p1 := ap.1.1
  have okw := hW _ pb.2.2.1.1 pb.2.2.1.2
  have tl := tells_bd (p := p) (mi := S 0 0 0) hY
  have bT : okT (S 3 p 1) 0 (tbS S p (S 0 0 0) 0) := tb_bd ap.1 okw (mo := moS S p (S 0 0 0)) tl.1 tl.2.1 tl.2.2.2.1 (n := S 3 p 1) (by omega) (S 3 p 1).toNat (by omega) 0 (by omega) (by omega)
  unfold bsL
  by_cases c : (tbS S p (S 0 0 0) 0).1 = -1
  · rw [if_pos c]
    exact ⟨by omega, fun _ => c, fun _ => rfl⟩
  · rw [if_neg c]
    rcases bT with e | e
    · exact absurd e c
    · have e1 := e.2.1
      have e2 := (e.2.2 (by omega)).1
      exact ⟨by omega, fun z => by omega, fun z => absurd z c⟩
theorem jbL_b {S : am_G} {k i : Int} (hC : okC S) (hF : okF S) (hA : okA S) (hY : okY S) (hW : okWs S) (hM : okM S) (hJ : okJ S) (hk : 0 ≤ k ∧ k < S 0 0 3) (hi : 0 ≤ i ∧ i < S 5 k 29) : 0 ≤ jbL S k i ∧ jbL S k i ≤ 40 := by
  have c3 := hC.2.2.1
  have m := (hM k hk.1 (by omega)).2.2.2.2.2.2.2 i hi.1 hi.2
  have j := hJ.1 k i hk.1 hk.2 hi.1 hi.2
  have a := hA _ m.1
  unfold jbL
  by_cases c : (S 5 k (37 + 5 * i)) = 0
  · rw [if_pos c]
    have := j.1 c
    omega
  · rw [if_neg c]
    by_cases c2 : S 3 (S 5 k (33 + 5 * i)) 3 = 0
    · rw [if_pos c2]
      exact (bsL_b hC hF hA hY hW m.1).1
    · rw [if_neg c2]
      have a4 := a.2.2.2.2.2.2.2
      have a3 := a.2.2.2.2.1
      have := (j.2 c).2 (by omega)
      omega
theorem quL_b {S : am_G} {k : Int} (hC : okC S) (hF : okF S) (hA : okA S) (hY : okY S) (hW : okWs S) (hM : okM S) (hJ : okJ S) (hk : 0 ≤ k ∧ k < S 0 0 3) {n : Nat} (hn : (n : Int) ≤ S 5 k 29) : 0 ≤ sg (jbL S k) 0 n ∧ sg (jbL S k) 0 n ≤ 1200 := by
  have c3 := hC.2.2.1
  have m := (hM k hk.1 (by omega)).2.2.2.1
  have q := sg_bd (f := jbL S k) (c := 40) n 0 (fun j a b => jbL_b hC hF hA hY hW hM hJ hk ⟨a, by omega⟩)
  omega
def leF (S : am_G) (c : Int) : Int := if 0 ≤ c ∧ c < S 0 0 3 ∧ S 5 c 28 = 0 then 1 else 0
def leR (S : am_G) : Int := plR (plS S 100).length (fun i => bsL S (gt (plS S 100) i.toNat)) (fun i => S 2 1 (gt (plS S 100) i.toNat / 5)) (leF S) (plS S 100).length 0 (fun c => S 0 0 0 + quL S c) 0 (-1)
section
variable {K : am_K} {b : am_H} {r : Nat} {S : am_G} {V : Nat → Int → Int} {W : Nat → Int}
theorem c_workB {p : Int} {D : Nat} (hD : 7 ≤ D) (hC : okC S) (hF : okF S) (hA : okA S) (hY : okY S) (hW : okWs S) (ip : isP S p) (H : ∀ V' W', fa [11, 12, 13, 14, 15, 16] V V' → fa [62, 63, 64, 65, 66, 67, 68] W W' → (V' 14 0 = -1 → bsL S p = 0) → (V' 14 0 ≠ -1 → bsL S p ≠ 0 ∧ V' 15 0 = bsL S p) → K (.inl none) (mo b r (ms S) V' W')) : am_ev am_prog D 113 [.inr (.inl r), .inl p, .inl (S 0 0 0)] (mo b r (ms S) V W) K := by
  have pb := isP_bd hC hF ip
  have ap := hA p ip
  have p1 := ap.1.1
  have okw := hW _ pb.2.2.1.1 pb.2.2.1.2
  refine c_work (by omega) hY pb.1 pb.2.2.1 ap.1 okw (fun V' W' hV hWf w63 w64 w65 w66 w67 w68 tb => ?_)
  have t0 := tb 0 (by omega) (by omega)
  have bb := (bsL_b hC hF hA hY hW ip).2
  refine H V' W' hV hWf (fun e => bb.mpr (t0.1.symm.trans e)) (fun e => ?_)
  rw [t0.1] at e
  exact ⟨fun z => e (bb.mp z), (t0.2 e).1.trans (if_neg e).symm⟩
theorem c_queueLines {k : Int} {D : Nat} (hD : 20 ≤ D) (hC : okC S) (hF : okF S) (hA : okA S) (hY : okY S) (hW : okWs S) (hM : okM S) (hJ : okJ S) (hk : 0 ≤ k ∧ k < S 0 0 3) (H : ∀ V' W', fa [11, 12, 13, 14, 15, 16] V V' → fa [62, 63, 64, 65, 66, 67, 68] W W' → K (.inl (some (.inl (quL S k)))) (mo b r (ms S) V' W')) : am_ev am_prog D 112 [.inr (.inl r), .inl k] (mo b r (ms S) V W) K := by
  have c3 := hC.2.2.1
  have mk := hM k hk.1 (by omega)
  obtain ⟨d, rfl⟩ : ∃ d, D = d + 4 := ⟨D - 4, by omega⟩
  refine am_en p_X5_queueLines rfl rfl ?_
  refine w_queueLines_0 ⟨by omega, ?_⟩
  have loop : ∀ i, 0 ≤ i → i ≤ S 5 k 29 → ∀ V' W', fa [11, 12, 13, 14, 15, 16] V V' → fa [62, 63, 64, 65, 66, 67, 68] W W' → ∀ o5 o6, am_W m_X5_queueLines (am_ev am_prog (d + 3)) K 7 [some (.inr (.inl r)), some (.inl (k)), some (.inl (320230 + 183 * k)), some (.inl (sg (jbL S k) 0 i.toNat)), some (.inl (i)), o5, o6] [] (mo b r (ms S) V' W') := by
    refine lp_z ?_ ?_
    · intro i i0 i1 hL V' W' fV fW o5 o6
      have m := mk.2.2.2.2.2.2.2 i i0 i1
      have pb := isP_bd hC hF m.1
      have a := hA _ m.1
      have a3 := a.2.2.2.2.1
      have a4 := a.2.2.2.2.2.2.2
      have bj := jbL_b hC hF hA hY hW hM hJ hk ⟨i0, i1⟩
      have bq := quL_b (n := i.toNat) hC hF hA hY hW hM hJ hk (by omega)
      rw [sg_s i0] at hL
      have hL' : ∀ v, v = jbL S k i → ∀ V' W', fa [11, 12, 13, 14, 15, 16] V V' → fa [62, 63, 64, 65, 66, 67, 68] W W' → ∀ o5 o6, am_W m_X5_queueLines (am_ev am_prog (d + 3)) K 7 [some (.inr (.inl r)), some (.inl (k)), some (.inl (320230 + 183 * k)), some (.inl (sg (jbL S k) 0 i.toNat + v)), some (.inl (i + 1)), o5, o6] [] (mo b r (ms S) V' W') := by
        intro v ev
        rw [ev]
        exact hL
      refine w_queueLines_7 ⟨by omega, fun z => absurd z (by omega), fun _ => ⟨by omega, by omega, by omega, fun z => ⟨by omega, fun z2 => ⟨by omega, ?_⟩, fun z2 => ⟨?_, by omega, ?_⟩⟩, fun z => ⟨?_, by omega, ?_⟩⟩⟩
      · have ej : jbL S k i = bsL S (S 5 k (33 + 5 * i)) := (if_neg z).trans (if_pos (by omega))
        refine c_workB (by omega) hC hF hA hY hW m.1 (fun V2 W2 f2 fw2 h1 h2 => am_an (w_queueLines_88 ⟨fun e => ?_, fun e => ?_⟩))
        · have := h2 e
          rw [this.2, ← ej]
          exact ⟨by omega, by omega, hL' _ rfl V2 W2 (fa_trans fV f2) (fa_trans fW fw2) _ _⟩
        · have := h1 e
          exact ⟨by omega, by omega, hL' 0 (by omega) V2 W2 (fa_trans fV f2) (fa_trans fW fw2) _ _⟩
      · omega
      · have ej : jbL S k i = S 3 (S 5 k (33 + 5 * i)) 4 - (S 5 k (34 + 5 * i)) := (if_neg z).trans (if_neg (by omega))
        exact hL' _ ej.symm V' W' fV fW _ _
      · omega
      · have ej : jbL S k i = (S 5 k (35 + 5 * i)) - (S 5 k (34 + 5 * i)) := if_pos z
        exact hL' _ ej.symm V' W' fV fW _ _
    · intro V' W' fV fW o5 o6
      exact w_queueLines_7 ⟨by omega, fun _ => H V' W' fV fW, fun z => absurd z (by omega)⟩
  exact loop 0 (by omega) (by omega) V W fa_refl fa_refl _ _
theorem c_place {P : Nat} {L : List Int} {fl : Int → Int} (hC : okC S) (hF : okF S) (hM : okM S) (hP : P = L.length) (h5 : P ≤ 5) (hL : ∀ q, q ∈ L → isP S q ∧ (0 ≤ bsL S q ∧ bsL S q ≤ 40)) (hf : ∀ c, 0 ≤ c → c < S 0 0 3 → (fl c = 0 ↔ S 5 c 28 = 1)) (hf2 : ∀ c, S 0 0 3 ≤ c → fl c = 0) : ∀ (k : Nat) {K : am_K} {V : Nat → Int → Int} {W : Nat → Int} {m : Nat} {fr : Int → Int} {n late best : Int} {D : Nat}, 6 + k ≤ D → n + k = P → 0 ≤ n → m < 2 ^ P → ((bcn m P : Nat) : Int) = n → W 94 = P → W 95 = best → (∀ i : Nat, i < P → V 33 i = gt L i ∧ V 34 i = bsL S (gt L i)) → (∀ c, 0 ≤ c → c < S 0 0 3 → V 35 c = fr c ∧ (0 ≤ fr c ∧ fr c ≤ 1800 + 40 * n)) → 0 ≤ late ∧ late ≤ 3000 * n → (∀ V' W', fa [35] V V' → fa [95] W W' → (∀ c, 0 ≤ c → c < S 0 0 3 → V' 35 c = fr c) → W' 95 = plR P (fun i => bsL S (gt L i.toNat)) (fun i => S 2 1 (gt L i.toNat / 5)) fl k m fr late best → K (.inl none) (mo b r (ms S) V' W')) → am_ev am_prog D 111 [.inr (.inl r), .inl (m : Int), .inl n, .inl late] (mo b r (ms S) V W) K := by
  have c3 := hC.2.2.1
  have p32 := p5 h5
  intro k
  induction k with
  | zero =>
    intro K V W m fr n late best D hD hn n0 hm hb w94 w95 v34 v35 hl H
    have H' : ∀ V' W', fa [35] V V' → fa [95] W W' → (∀ c, 0 ≤ c → c < S 0 0 3 → V' 35 c = fr c) → W' 95 = (if best ≠ -1 ∧ best ≤ late then best else late) → K (.inl none) (mo b r (ms S) V' W') := H
    obtain ⟨d, rfl⟩ : ∃ d, D = d + 4 := ⟨D - 4, by omega⟩
    refine am_en p_X5_place rfl rfl ?_
    have ex : ¬ (best ≠ -1 ∧ best ≤ late) → K (.inl none) (mo b r (ms S) V (am_up W 95 late)) := fun c => by
      rw [if_neg c] at H'
      exact H' V _ fa_refl (fa_up fa_refl rfl) (fun c a d => (v35 c a d).1) am_up_eq
    refine w_place_0 ⟨fun z => ⟨fun y => absurd (by rw [w94]; omega) y, fun _ => ex (fun w => w.1 (w95.symm.trans z))⟩, fun z => ⟨fun y => ⟨fun y2 => absurd (by rw [w94]; omega) y2, fun _ => ex (by omega)⟩, fun y => ?_⟩⟩
    rw [if_pos ⟨fun e => z (w95.trans e), by omega⟩] at H'
    exact H' V W fa_refl fa_refl (fun c a d => (v35 c a d).1) w95
  | succ k ih =>
    intro K V W m fr n late best D hD hn n0 hm hb w94 w95 v34 v35 hl H
    generalize hg : (fun i s => if m / 2 ^ i % 2 = 1 then s else upL (fun c s => if fl ((c : Nat) : Int) = 0 then s else plR P (fun i => bsL S (gt L i.toNat)) (fun i => S 2 1 (gt L i.toNat / 5)) fl k (m ||| 2 ^ i) (am_uz fr (c : Int) (fr (c : Int) + bsL S (gt L ((i : Nat) : Int).toNat))) (late + mx0 (fr (c : Int) + bsL S (gt L ((i : Nat) : Int).toNat) - S 2 1 (gt L ((i : Nat) : Int).toNat / 5))) s) 4 s : Nat → Int → Int) = g
    have H' : ∀ V' W', fa [35] V V' → fa [95] W W' → (∀ c, 0 ≤ c → c < S 0 0 3 → V' 35 c = fr c) → W' 95 = (if best ≠ -1 ∧ best ≤ late then best else upL g P best) → K (.inl none) (mo b r (ms S) V' W') := by
      rw [← hg]
      exact H
    obtain ⟨d, rfl⟩ : ∃ d, D = d + 4 := ⟨D - 4, by omega⟩
    refine am_en p_X5_place rfl rfl ?_
    have go : ¬ (best ≠ -1 ∧ best ≤ late) → am_W m_X5_place (am_ev am_prog (d + 3)) K 19 [some (.inr (.inl r)), some (.inl ((m : Int))), some (.inl (n)), some (.inl (late)), some (.inl (0)), none, none] [] (mo b r (ms S) V W) := fun cc => by
      rw [if_neg cc] at H'
      have loop : ∀ i, 0 ≤ i → i ≤ (P : Int) → ∀ V' W', fa [35] V V' → fa [95] W W' → (∀ c, 0 ≤ c → c < S 0 0 3 → V' 35 c = fr c) → W' 95 = upL g i.toNat best → ∀ o5 o6, am_W m_X5_place (am_ev am_prog (d + 3)) K 19 [some (.inr (.inl r)), some (.inl ((m : Int))), some (.inl (n)), some (.inl (late)), some (.inl (i)), o5, o6] [] (mo b r (ms S) V' W') := by
        refine lp_z ?_ ?_
        · intro i i0 i1 hLi V' W' fV fW g35 gb o5 o6
          have e94 : W' 94 = P := (fW 94 rfl).trans w94
          have ii : ((i.toNat : Nat) : Int) = i := by omega
          have ei : (i + 1).toNat = i.toNat + 1 := by omega
          have hb' : am_andz (am_shrz (m : Int) i) 1 = ((m / 2 ^ i.toNat % 2 : Nat) : Int) := bit_z (x := (m : Int)) (j := i) (by omega) (by omega)
          have gs : upL g (i.toNat + 1) best = g i.toNat (upL g i.toNat best) := rfl
          rw [ei, gs] at hLi
          refine w_place_19 ⟨fun z => absurd z (by omega), fun _ => ?_⟩
          rw [hb']
          refine ⟨fun z => ?_, fun z => ⟨by omega, ?_⟩⟩
          · have zz : ¬ m / 2 ^ i.toNat % 2 = 1 := by omega
            generalize hq : (fun c s => if fl ((c : Nat) : Int) = 0 then s else plR P (fun i => bsL S (gt L i.toNat)) (fun i => S 2 1 (gt L i.toNat / 5)) fl k (m ||| 2 ^ i.toNat) (am_uz fr (c : Int) (fr (c : Int) + bsL S (gt L i.toNat))) (late + mx0 (fr (c : Int) + bsL S (gt L i.toNat) - S 2 1 (gt L i.toNat / 5))) s : Nat → Int → Int) = q
            have eg : ∀ s, g i.toNat s = upL q 4 s := fun s => by
              rw [← hg, ← hq]
              show (if m / 2 ^ i.toNat % 2 = 1 then s else upL _ 4 s) = _
              rw [if_neg zz, ii]
            have e4 : (S 0 0 3).toNat + (4 - (S 0 0 3).toNat) = 4 := by omega
            have eq4 : ∀ s, upL q 4 s = upL q (S 0 0 3).toNat s := fun s => by
              have := upL_top (f := q) (s := s) (M := (S 0 0 3).toNat) (4 - (S 0 0 3).toNat) (fun c a b s => by
                rw [← hq]
                exact if_pos (hf2 c (by omega)))
              rw [e4] at this
              exact this
            rw [eg, eq4] at hLi
            have mm := msk_k ⟨P, by omega⟩ ⟨m, by omega⟩ ⟨i.toNat, by omega⟩ hm (by show i.toNat < P; omega) zz
            dsimp only at mm
            have mor := msk_o ⟨m, by omega⟩ ⟨i.toNat, by omega⟩
            dsimp only at mor
            rw [ii] at mor
            have gm : gt L i.toNat ∈ L := gt_mem L i.toNat (by omega)
            have Lq := hL _ gm
            have pb := isP_bd hC hF Lq.1
            have vi := v34 i.toNat (by omega)
            rw [ii] at vi
            have loop2 : ∀ c, 0 ≤ c → c ≤ S 0 0 3 → ∀ V' W', fa [35] V V' → fa [95] W W' → (∀ c, 0 ≤ c → c < S 0 0 3 → V' 35 c = fr c) → W' 95 = upL q c.toNat (upL g i.toNat best) → ∀ o6, am_W m_X5_place (am_ev am_prog (d + 3)) K 33 [some (.inr (.inl r)), some (.inl ((m : Int))), some (.inl (n)), some (.inl (late)), some (.inl (i)), some (.inl (c)), o6] [] (mo b r (ms S) V' W') := by
              refine lp_z ?_ ?_
              · intro c c0 c1 hLc V' W' fV fW g35 gb o6
                have cc : ((c.toNat : Nat) : Int) = c := by omega
                have ec : (c + 1).toNat = c.toNat + 1 := by omega
                have gs : upL q (c.toNat + 1) (upL g i.toNat best) = q c.toNat (upL q c.toNat (upL g i.toNat best)) := rfl
                rw [ec, gs] at hLc
                have eq : ∀ s, q c.toNat s = if fl c = 0 then s else plR P (fun i => bsL S (gt L i.toNat)) (fun i => S 2 1 (gt L i.toNat / 5)) fl k (m ||| 2 ^ i.toNat) (am_uz fr c (fr c + bsL S (gt L i.toNat))) (late + mx0 (fr c + bsL S (gt L i.toNat) - S 2 1 (gt L i.toNat / 5))) s := fun s => by
                  rw [← hq]
                  show (if fl ((c.toNat : Nat) : Int) = 0 then s else plR P _ _ fl k (m ||| 2 ^ i.toNat) (am_uz fr ((c.toNat : Nat) : Int) (fr ((c.toNat : Nat) : Int) + bsL S (gt L i.toNat))) (late + mx0 (fr ((c.toNat : Nat) : Int) + bsL S (gt L i.toNat) - S 2 1 (gt L i.toNat / 5))) s) = _
                  rw [cc]
                rw [eq] at hLc
                have vc := v35 c c0 c1
                have e33 : V' 33 i = gt L i.toNat := by
                  rw [fV 33 rfl]
                  exact vi.1
                have e34 : V' 34 i = bsL S (gt L i.toNat) := by
                  rw [fV 34 rfl]
                  exact vi.2
                refine w_place_33 ⟨fun z => absurd z (by omega), fun _ => ⟨by omega, by omega, fun z2 => ?_, fun z2 => ⟨by omega, ?_⟩⟩⟩
                · rw [if_neg (fun w => z2 ((hf c c0 c1).mp w))] at hLc
                  rw [e33, e34, g35 c c0 c1, mor]
                  have call : ∀ e : Int, e = mx0 (fr c + bsL S (gt L i.toNat) - S 2 1 ((gt L i.toNat) / 5)) → am_ev am_prog (d + 3) 111 [.inr (.inl r), .inl ((m ||| 2 ^ i.toNat : Nat) : Int), .inl (n + 1), .inl (late + e)] (mo b r (ms S) (am_up V' 35 (am_uz (V' 35) c (fr c + bsL S (gt L i.toNat)))) W') (am_aft (am_hand m_X5_place K (am_W m_X5_place (am_ev am_prog (d + 3)) K) 93) (am_W m_X5_place (am_ev am_prog (d + 3)) K) 93 [some (.inr (.inl r)), some (.inl ((m : Int))), some (.inl (n)), some (.inl (late)), some (.inl (i)), some (.inl (c)), some (.inl (fr c + bsL S (gt L i.toNat) - S 2 1 ((gt L i.toNat) / 5)))] []) := by
                    intro e ee
                    have eb : 0 ≤ e ∧ e ≤ 2500 := by
                      rw [ee]
                      unfold mx0
                      split <;> omega
                    have u35 : am_up V' 35 (am_uz (V' 35) c (fr c + bsL S (gt L i.toNat))) 35 = am_uz (V' 35) c (fr c + bsL S (gt L i.toNat)) := am_up_eq
                    have fu : fa [35] V' (am_up V' 35 (am_uz (V' 35) c (fr c + bsL S (gt L i.toNat)))) := fa_up fa_refl rfl
                    generalize am_up V' 35 (am_uz (V' 35) c (fr c + bsL S (gt L i.toNat))) = U at *
                    refine ih (fr := am_uz fr c (fr c + bsL S (gt L i.toNat))) (best := upL q c.toNat (upL g i.toNat best)) (by omega) (by omega) (by omega) mm.1 (by omega) ((fW 94 rfl).trans w94) gb (fun j hj => ?_) (fun c' a b => ?_) (by omega) (fun V2 W2 f2 fw2 g2 gb2 => am_an (w_place_94 ?_))
                    · rw [fu 33 rfl, fu 34 rfl, fV 33 rfl, fV 34 rfl]
                      exact v34 j hj
                    · have vc' := v35 c' a b
                      rw [u35]
                      by_cases ce : c' = c
                      · rw [ce, am_uz_eq, am_uz_eq]
                        omega
                      · rw [am_uz_ne ce, am_uz_ne ce]
                        exact ⟨g35 c' a b, by omega⟩
                    · have k34 : V2 34 i = bsL S (gt L i.toNat) := by
                        rw [f2 34 rfl, fu 34 rfl]
                        exact e34
                      have k35 := g2 c c0 c1
                      rw [am_uz_eq] at k35
                      rw [k34, k35]
                      have es : fr c + bsL S (gt L i.toNat) - bsL S (gt L i.toNat) = fr c := by omega
                      rw [es]
                      refine ⟨by omega, by omega, hLc _ W2 (fa_up (fa_trans fV (fa_trans fu f2)) rfl) (fa_trans fW fw2) (fun c' a b => ?_) (by rw [gb2, ee]) _⟩
                      have x35 : am_up V2 35 (am_uz (V2 35) c (fr c)) 35 = am_uz (V2 35) c (fr c) := am_up_eq
                      rw [x35]
                      by_cases ce : c' = c
                      · rw [ce, am_uz_eq]
                      · rw [am_uz_ne ce, g2 c' a b, am_uz_ne ce]
                  refine ⟨by omega, by omega, fun z3 => ⟨by omega, call 0 ?_⟩, fun z3 => ⟨by omega, call _ ?_⟩⟩
                  · unfold mx0
                    rw [if_neg (by omega)]
                  · unfold mx0
                    rw [if_pos z3]
                · rw [if_pos ((hf c c0 c1).mpr z2)] at hLc
                  exact hLc V' W' fV fW g35 gb _
              · intro V' W' fV fW g35 gb o6
                exact w_place_33 ⟨fun _ => ⟨by omega, hLi V' W' fV fW g35 gb _ _⟩, fun z => absurd z (by omega)⟩
            exact loop2 0 (by omega) c3.1 V' W' fV fW g35 gb _
          · have zz : m / 2 ^ i.toNat % 2 = 1 := by omega
            have eg : ∀ s, g i.toNat s = s := fun s => by
              rw [← hg]
              exact if_pos zz
            rw [eg] at hLi
            exact hLi V' W' fV fW g35 gb _ _
        · intro V' W' fV fW g35 gb o5 o6
          exact w_place_19 ⟨fun _ => H' V' W' fV fW g35 gb, fun z => absurd z (by rw [fW 94 rfl, w94]; omega)⟩
      exact loop 0 (by omega) (by omega) V W fa_refl fa_refl (fun c a d => (v35 c a d).1) w95 _ _
    refine w_place_0 ⟨fun z => ⟨fun y => go (fun w => w.1 (w95.symm.trans z)), fun y => absurd (y.trans w94) (by omega)⟩, fun z => ⟨fun y => ⟨fun y2 => go (by omega), fun y2 => absurd (y2.trans w94) (by omega)⟩, fun y => ?_⟩⟩
    rw [if_pos ⟨fun e => z (w95.trans e), by omega⟩] at H'
    exact H' V W fa_refl fa_refl (fun c a d => (v35 c a d).1) w95
theorem M_least {D : Nat} (hD : 90 ≤ D) (hC : okC S) (hF : okF S) (hA : okA S) (hY : okY S) (hW : okWs S) (hM : okM S) (hJ : okJ S) (H : MR b r K S V W 0 (leR S)) : am_ev am_prog D 12 [.inr (.inl r)] (mo b r (ms S) V W) K := by
  have c0 := hC.1
  have c1 := hC.2.1
  have c3 := hC.2.2.1
  obtain ⟨d, rfl⟩ : ∃ d, D = d + 4 := ⟨D - 4, by omega⟩
  refine am_en p_X5_least rfl rfl ?_
  refine w_least_0 ?_
  have H2 : ∀ V' W', fa [11, 12, 13, 14, 15, 16, 33, 34, 35] V V' → fa [62, 63, 64, 65, 66, 67, 68, 94, 95] (am_up W 38 0) W' → W' 94 = ((plS S 100).length : Int) → (∀ i : Nat, i < (plS S 100).length → V' 33 i = gt (plS S 100) i ∧ V' 34 i = bsL S (gt (plS S 100) i)) → am_W m_X5_least (am_ev am_prog (d + 3)) K 68 [some (.inr (.inl r)), some (.inl (0))] [] (mo b r (ms S) V' W') := by
    intro V1 W1 fV1 fW1 e94 e34
    have loop : ∀ k, 0 ≤ k → k ≤ S 0 0 3 → ∀ V' W', fa [11, 12, 13, 14, 15, 16, 33, 34, 35] V V' → fa [62, 63, 64, 65, 66, 67, 68, 94, 95] (am_up W 38 0) W' → W' 94 = ((plS S 100).length : Int) → (∀ i : Nat, i < (plS S 100).length → V' 33 i = gt (plS S 100) i ∧ V' 34 i = bsL S (gt (plS S 100) i)) → (∀ c, 0 ≤ c → c < k → V' 35 c = S 0 0 0 + quL S c) → am_W m_X5_least (am_ev am_prog (d + 3)) K 68 [some (.inr (.inl r)), some (.inl (k))] [] (mo b r (ms S) V' W') := by
      refine lp_z ?_ ?_
      · intro k k0 k1 hL V' W' fV fW e94 e34 e35
        have bq := quL_b (n := (S 5 k 29).toNat) hC hF hA hY hW hM hJ ⟨k0, k1⟩ (by have := (hM k k0 (by omega)).2.2.2.1; omega)
        have bq' : 0 ≤ quL S k ∧ quL S k ≤ 1200 := bq
        refine w_least_68 ⟨fun z => absurd z (by omega), fun _ => c_queueLines (by omega) hC hF hA hY hW hM hJ ⟨k0, k1⟩ (fun V2 W2 f2 fw2 => am_av (w_least_84 ⟨by omega, by omega, hL _ W2 (fa_up (fa_trans fV (fa_sub f2 rfl)) rfl) (fa_trans fW (fa_sub fw2 rfl)) ((fw2 94 rfl).trans e94) (fun i hi => ?_) (fun c a d => ?_)⟩))⟩
        · have u33 : am_up V2 35 (am_uz (V2 35) k (S 0 0 0 + quL S k)) 33 = V2 33 := am_up_ne (by decide)
          have u34 : am_up V2 35 (am_uz (V2 35) k (S 0 0 0 + quL S k)) 34 = V2 34 := am_up_ne (by decide)
          rw [u33, u34, f2 33 rfl, f2 34 rfl]
          exact e34 i hi
        · have u35 : am_up V2 35 (am_uz (V2 35) k (S 0 0 0 + quL S k)) 35 = am_uz (V2 35) k (S 0 0 0 + quL S k) := am_up_eq
          rw [u35]
          by_cases e : c = k
          · rw [e, am_uz_eq]
          · rw [am_uz_ne e, f2 35 rfl]
            exact e35 c a (by omega)
      · intro V' W' fV fW e94 e34 e35
        refine w_least_68 ⟨fun _ => ?_, fun z => absurd z (by omega)⟩
        have w95 : am_up W' 95 (-1) 95 = -1 := am_up_eq
        have w94 : am_up W' 95 (-1) 94 = ((plS S 100).length : Int) := (am_up_ne (by decide)).trans e94
        have fw95 : fa [95] W' (am_up W' 95 (-1)) := fa_up fa_refl rfl
        generalize am_up W' 95 (-1) = Wp at *
        have z2 : bcn 0 (plS S 100).length = 0 := by
          have : ∀ n, bcn 0 n = 0 := fun n => by
            induction n with
            | zero => rfl
            | succ n ih =>
              show bcn 0 n + 0 / 2 ^ n % 2 = 0
              rw [ih, Nat.zero_div]
          exact this _
        refine c_place (P := (plS S 100).length) (L := plS S 100) (fl := leF S) (m := 0) (fr := fun c => S 0 0 0 + quL S c) (best := -1) hC hF hM rfl (plS_5 100) (fun q hq => ⟨(plS_m 100 q hq).1, (bsL_b hC hF hA hY hW (plS_m 100 q hq).1).1⟩) (fun c a d => ?_) (fun c a => if_neg (fun z => by omega)) (plS S 100).length (by have := plS_5 (S := S) 100; omega) (by omega) (by omega) (Nat.two_pow_pos _) (by omega) w94 w95 e34 (fun c a d => ⟨e35 c a d, ?_⟩) (by omega) (fun V2 W2 f2 fw2 g2 gb => am_an (w_least_96 ?_))
        · have m28 := (hM c a (by omega)).2.2.1
          unfold leF
          by_cases e : S 5 c 28 = 0
          · rw [if_pos ⟨a, d, e⟩]
            omega
          · rw [if_neg (fun z => e z.2.2)]
            omega
        · have bq := quL_b (n := (S 5 c 29).toNat) hC hF hA hY hW hM hJ ⟨a, d⟩ (by have := (hM c a (by omega)).2.2.2.1; omega)
          have bq' : 0 ≤ quL S c ∧ quL S c ≤ 1200 := bq
          show 0 ≤ S 0 0 0 + quL S c ∧ S 0 0 0 + quL S c ≤ 1800 + 40 * 0
          omega
        · rw [gb]
          exact MR_f H (fa_trans fV (fa_sub f2 rfl)) (fa_trans fW (fa_trans (fa_sub fw95 rfl) (fa_sub fw2 rfl))) rfl rfl rfl rfl rfl rfl
    exact loop 0 (by omega) c3.1 V1 W1 fV1 fW1 e94 e34 (fun c a d => absurd d (by omega))
  have loop : ∀ p, 0 ≤ p → p ≤ 100 → ∀ V' W', fa [11, 12, 13, 14, 15, 16, 33, 34, 35] V V' → fa [62, 63, 64, 65, 66, 67, 68, 94, 95] (am_up W 38 0) W' → W' 94 = ((plS S p.toNat).length : Int) → (∀ i : Nat, i < (plS S p.toNat).length → V' 33 i = gt (plS S p.toNat) i ∧ V' 34 i = bsL S (gt (plS S p.toNat) i)) → am_W m_X5_least (am_ev am_prog (d + 3)) K 8 [some (.inr (.inl r)), some (.inl (p))] [] (mo b r (ms S) V' W') := by
    refine lp_z ?_ ?_
    · intro p p0 p1 hL V' W' fV fW e94 e34
      have l5 := plS_5 (S := S) p.toNat
      have ep : (p + 1).toNat = p.toNat + 1 := by omega
      have epp : ((p.toNat : Nat) : Int) = p := by omega
      have es : plS S (p + 1).toNat = if (plS S p.toNat).length < 5 ∧ (0 ≤ p ∧ p / 5 < S 0 0 1 ∧ p % 5 < S 2 2 (p / 5)) ∧ S 3 p 2 = 0 ∧ bsL S p ≠ 0 then plS S p.toNat ++ [p] else plS S p.toNat := by
        rw [ep]
        show (if (plS S p.toNat).length < 5 ∧ (0 ≤ ((p.toNat : Nat) : Int) ∧ ((p.toNat : Nat) : Int) / 5 < S 0 0 1 ∧ ((p.toNat : Nat) : Int) % 5 < S 2 2 (((p.toNat : Nat) : Int) / 5)) ∧ S 3 ((p.toNat : Nat) : Int) 2 = 0 ∧ bsL S ((p.toNat : Nat) : Int) ≠ 0 then plS S p.toNat ++ [((p.toNat : Nat) : Int)] else plS S p.toNat) = _
        rw [epp]
      rw [es] at hL
      refine w_least_8 ⟨fun z => absurd z (by omega), fun _ => ⟨fun z => ?_, fun z => ⟨by omega, fun ip => ⟨by omega, ?_⟩, fun ip => ⟨by omega, by omega, fun z2 => ?_, fun z2 => ⟨by omega, ?_⟩⟩⟩⟩⟩
      · have et := plS_top (S := S) (p := p.toNat) (by omega) (100 - p.toNat)
        have e100 : p.toNat + (100 - p.toNat) = 100 := by omega
        rw [e100] at et
        rw [← et] at e94 e34
        exact H2 V' W' fV fW e94 e34
      · rw [if_neg (fun w => ip w.2.1)] at hL
        exact hL V' W' fV fW e94 e34
      · have a2 := (hA p ip).2.2.2.1
        refine c_workB (by omega) hC hF hA hY hW ip (fun V2 W2 f2 fw2 h1 h2 => am_an (w_least_36 ⟨fun e => ?_, fun e => ⟨by omega, ?_⟩⟩))
        · obtain ⟨b1, b2⟩ := h2 e
          rw [if_pos ⟨by omega, ip, by omega, b1⟩] at hL
          have w94 : W2 94 = ((plS S p.toNat).length : Int) := (fw2 94 rfl).trans e94
          rw [w94, b2]
          have u33 : am_up (am_up V2 33 (am_uz (V2 33) ((plS S p.toNat).length : Int) p)) 34 (am_uz (V2 34) ((plS S p.toNat).length : Int) (bsL S p)) 33 = am_uz (V2 33) ((plS S p.toNat).length : Int) p := (am_up_ne (by decide)).trans am_up_eq
          have u34 : am_up (am_up V2 33 (am_uz (V2 33) ((plS S p.toNat).length : Int) p)) 34 (am_uz (V2 34) ((plS S p.toNat).length : Int) (bsL S p)) 34 = am_uz (V2 34) ((plS S p.toNat).length : Int) (bsL S p) := am_up_eq
          have fu : fa [33, 34] V2 (am_up (am_up V2 33 (am_uz (V2 33) ((plS S p.toNat).length : Int) p)) 34 (am_uz (V2 34) ((plS S p.toNat).length : Int) (bsL S p))) := fa_up (fa_up fa_refl rfl) rfl
          generalize am_up (am_up V2 33 (am_uz (V2 33) ((plS S p.toNat).length : Int) p)) 34 (am_uz (V2 34) ((plS S p.toNat).length : Int) (bsL S p)) = U at *
          refine ⟨by omega, by omega, by omega, by omega, hL U _ (fa_trans fV (fa_trans (fa_sub f2 rfl) (fa_sub fu rfl))) (fa_up (fa_trans fW (fa_sub fw2 rfl)) rfl) ?_ (fun i hi => ?_)⟩
          · rw [am_up_eq, List.length_append]
            rfl
          · rw [List.length_append] at hi
            have e1 : [p].length = 1 := rfl
            rw [u33, u34]
            by_cases ei : i = (plS S p.toNat).length
            · rw [ei, am_uz_eq, am_uz_eq, gt_last]
              exact ⟨rfl, rfl⟩
            · have hi' : i < (plS S p.toNat).length := by omega
              rw [am_uz_ne (by omega), am_uz_ne (by omega), gt_app _ _ hi', f2 33 rfl, f2 34 rfl]
              exact e34 i hi'
        · rw [if_neg (fun w => w.2.2.2 (h1 e))] at hL
          exact hL V2 W2 (fa_trans fV (fa_sub f2 rfl)) (fa_trans fW (fa_sub fw2 rfl)) ((fw2 94 rfl).trans e94) (fun i hi => by rw [f2 33 rfl, f2 34 rfl]; exact e34 i hi)
      · rw [if_neg (fun w => by have := w.2.2.1; omega)] at hL
        exact hL V' W' fV fW e94 e34
    · intro V' W' fV fW e94 e34
      exact w_least_8 ⟨fun _ => H2 V' W' fV fW e94 e34, fun z => absurd z (by omega)⟩
  exact loop 0 (by omega) (by omega) V _ fa_refl (fa_up fa_refl rfl) am_up_eq (fun i hi => absurd hi (Nat.not_lt_zero i))
end
