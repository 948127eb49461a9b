set_option maxRecDepth 100000
/-- the law between two calls, c calls behind it -/
def JS (x P r o s : Nat) (sc : Int → Int) (ns : Int) (Z U c : Nat) (h : am_H) : Prop := ∃ L N I S SI B BI t n V W, JH x P r o s sc ns L N I S S SI B BI t n (W 47) V W h ∧ okI S ∧ (tpR t (V 4) n ∧ W 44 = n) ∧ okVs V ∧ (B ≤ 1000 * c + 400 ∧ unT S ≤ c ∧ unT SI ≤ c) ∧ (am_sz h ≤ Z + 9400 * c ∧ am_us h ≤ U + 96000 * c)
/-- the room has been called: the model's call then ends as the room's did -/
def JM (x P r o s : Nat) (sc : Int → Int) (ns : Int) (Z U c : Nat) (y : Nat) (as : List am_V) (k : Int) (h1 : am_H) : Prop := (∃ L N I, JB x P r o s sc ns L N I h1) ∧ am_ty h1 r = 5 ∧ ∀ (K2 : am_K) (D : Nat), 90 ≤ D → (∀ h2 b, JS x P r o s sc ns Z U (c + 1) h2 → am_fi h2 38 r = k → (k = 0 → am_ai h2 o 0 = b) → K2 (.inl (some (.inl (b)))) h2) → am_ev am_prog D y (.inr (.inl r) :: as) h1 K2
section
variable {h h' : am_H} {L L' : am_Lb} {x P r o s : Nat} {sc : Int → Int} {ns : Int} {N I : Nat} {S S' m SI : am_G} {B B' BI : Int} {t : Int → Int} {n fl : Int} {V V' : Nat → Int → Int} {W W' : Nat → Int} {Z U c : Nat}
/-- the answer is written -/
theorem JH_o {i y : Int} (j : JH x P r o s sc ns L N I S m SI B BI t n fl V W h) : JH x P r o s sc ns L N I S m SI B BI t n fl V W (am_sai h o i y) := by
  obtain ⟨j1, j2, j3, j4, j5, j6, j7⟩ := j
  obtain ⟨jb, f⟩ := JB_o (i := i) (y := y) j1
  obtain ⟨⟨x1, x2, x3⟩, _, ⟨r1, r2⟩, ⟨_, _, _, q4⟩, _, _, ⟨n1, n2, n3, n4⟩, ⟨d1, d2, d3, d4, d5, d6⟩, ⟨i1, i2, i3, i4⟩⟩ := j1
  have own : ∀ q, q = o → (L q).1 = o := fun q z => by rw [z]; exact q4
  have kx := (f.2.2.2 x x2).2.2 d2
  refine ⟨jb, Nt_own j2 f (okLb_fx f j2.1) (fun q _ z => by rw [own q z]; exact ⟨n3, d6, fun y => d2 y.symm⟩), MoC_fx f r1 (fun i hi z => ?_) j3, ?_, TpX_fx f leL_refl x2 d2 (fun z => ?_) j5, (kx.1 5).trans j6, WD_fx f leL_refl (fun q _ z => by rw [own q z]; exact n3) j7⟩
  · have l := r2 i hi
    rw [z, q4] at l
    exact d4 l.symm
  · rcases j4 with c | ⟨c1, c2, c3, c4, c5⟩
    · exact Or.inl c
    · exact Or.inr ⟨c1, c2, Rep_fx (Int.le_refl BI) f leL_refl j2.1 j2.2.1.1 (fun q _ z => by rw [own q z]; exact ⟨n3, fun y => i3 y.symm⟩) c3, c4, c5⟩
  · have y := own _ z
    rw [j5.2.1.2.2.2] at y
    exact d2 y
/-- the model's part of a plain call -/
theorem JM_pS {y : Nat} {as : List am_V} {k a : Int} (j : JH x P r o s sc ns L' N I S' S SI B' BI t n (W 47) V W h') (oi : okI S') (tp : tpR t (V 4) n ∧ W 44 = n) (okv : okVs V) (hB : B' ≤ 1000 * (c + 1 : Nat) + 400) (un : unT S' ≤ (c + 1 : Nat)) (unI : unT SI ≤ (c + 1 : Nat)) (z : am_sz h' ≤ Z + 9400 * (c + 1)) (u : am_us h' ≤ U + 96000 * (c + 1)) (ans : k = 0 → am_ai h' o 0 = a) (hm : ∀ (b : am_H) (K2 : am_K) (D : Nat), 90 ≤ D → MR b r K2 S' V W k a → am_ev am_prog D y (.inr (.inl r) :: as) (mo b r (ms S) V W) K2) : JM x P r o s sc ns Z U c y as k h' := by
  refine ⟨⟨L', N, I, j.1⟩, j.2.2.1.1, fun K2 D hD H => ?_⟩
  have e := MoC_id j.2.2.1
  rw [e]
  refine hm h' K2 D hD (fun V' W' p w38 => ?_)
  obtain ⟨p2, p4, ⟨p5, p6, p7⟩, p42, p44, p47⟩ := p
  have j' := JH_M (m' := S') (V' := V') (W' := W') j p2 p42
  have j1 := j.1
  have fo := (mo_fx (b := h') (r := r) (m := ms S) (m' := ms S') (V := V) (V' := V') (W := W) (W' := W')).2.2.2 o (by rw [← e]; exact j1.2.2.2.1.2.2.1)
  have uo := fo.2.2 (fun y => by
    have e : r + (o - r) = o := by omega
    have l := j1.2.2.1.2 (o - r) (by omega)
    rw [e, j1.2.2.2.1.2.2.2] at l
    exact j1.2.2.2.2.2.2.2.1.2.2.2.1 l.symm)
  rw [← e] at uo
  refine H _ a ⟨L', N, I, S', SI, B', BI, t, n, V', W', ?_, oi, ⟨by rw [p4]; exact tp.1, p44.trans tp.2⟩, ?_, ⟨hB, un, unI⟩, ⟨z, u⟩⟩ (mo_i.trans w38) (fun k0 => ?_)
  · rw [p47]
    exact j'
  · unfold okVs at okv ⊢
    rw [p5, p6, p7]
    exact okv
  · rw [uo.2.2.1]
    exact ans k0
end
