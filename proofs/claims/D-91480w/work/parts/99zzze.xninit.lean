set_option maxRecDepth 100000
/-! a night is made -/
def nt0 : am_G := fun c _ i => if c = 1 then 4 else if c = 8 then (if i = 0 then 1 else if i = 1 then 20 else if i = 3 then -1 else 0) else 0
/-- labels of a new night's cells, by their place behind the old ones -/
def lbT (N : Nat) : Nat → Nat × Nat × Nat × Int
  | 1 => (N, 1, 0, 0)
  | 2 => (N, 1, 1, 0)
  | 3 => (N, 1, 1, 1)
  | 4 => (N, 3, 0, 0)
  | 5 => (N, 6, 0, 0)
  | 6 => (N, 5, 0, 0)
  | 7 => (N, 4, 0, 0)
  | 8 => (N, 7, 0, 0)
  | 9 => (N, 8, 0, 0)
  | 10 => (N, 9, 0, 0)
  | 11 => (N, 10, 0, 0)
  | 12 => (N, 10, 1, 0)
  | 13 => (N, 8, 1, 0)
  | 15 => (N, 8, 1, 1)
  | 17 => (N, 8, 1, 2)
  | 19 => (N, 8, 1, 3)
  | 21 => (N, 8, 1, 4)
  | 23 => (N, 8, 1, 5)
  | _ => (0, 0, 0, 0)
def lbN (L : am_Lb) (h : am_H) (N : Nat) : am_Lb := fun q => if am_sz h < q then lbT N (q - am_sz h) else L q
theorem lbN_n {L : am_Lb} {h : am_H} {N k : Nat} (hk : 0 < k) : lbN L h N (am_sz h + k) = lbT N k := by
  unfold lbN
  rw [if_pos (by omega), Nat.add_sub_cancel_left]
theorem lbN_o {L : am_Lb} {h : am_H} {N q : Nat} (hq : q ≤ am_sz h) : lbN L h N q = L q := if_neg (by omega)
theorem lbT_p {N j : Nat} (hj : j < 6) : lbT N (13 + 2 * j) = (N, 8, 1, (j : Int)) ∧ lbT N (14 + 2 * j) = (0, 0, 0, 0) := by
  have : j = 0 ∨ j = 1 ∨ j = 2 ∨ j = 3 ∨ j = 4 ∨ j = 5 := by omega
  rcases this with rfl | rfl | rfl | rfl | rfl | rfl <;> exact ⟨rfl, rfl⟩
theorem lbT_o {N k : Nat} : (lbT N k).1 = 0 ∨ (lbT N k).1 = N := by
  unfold lbT
  split <;> first | exact Or.inr rfl | exact Or.inl rfl
/-- a night whose groups are told by states of their own, its numbers by F -/
def CpI (h : am_H) (L : am_Lb) (N P : Nat) (F : Nat → Int) (T1 T3 T6 T5 T4 T7 T8 T9 T10 : am_G) (B : Int) : Prop := nd h L N 3 N 0 0 0 ∧ am_fr h 17 N = P ∧ (∀ f, am_fi h f N = F f) ∧ rW h L N (am_fr h 19 N) T1 ∧ rP h L N (am_fr h 20 N) T3 ∧ rY h L N (am_fr h 22 N) T6 B ∧ rM h L N (am_fr h 23 N) T5 B ∧ rG h L N (am_fr h 25 N) T4 B ∧ rT h L N (am_fr h 26 N) T7 B ∧ rH h L N (am_fr h 27 N) T8 ∧ rE h L N (am_fr h 28 N) T9 B ∧ rR h L N (am_fr h 30 N) (am_fr h 31 N) T10
/-- a list that is empty -/
theorem rL_0 {h : am_H} {L : am_Lb} {l o g k : Nat} {i B : Int} (t : am_ty h l = 31) (lz : l ≤ am_sz h) (l0 : l ≠ 0) (lb : L l = (o, g, k, i)) (cs : (am_ty h (am_cs h 0) = 134 ∧ am_cs h 0 ≤ am_sz h ∧ am_ln h (am_cs h 0) = 0)) (e : am_fr h 194 l = am_cs h 0) (e5 : am_fi h 195 l = 0) (e3 : am_fi h 193 l = 0) (hB : 0 ≤ B) : rL h L l o g k i 0 B := by
  unfold rL xLm xL
  rw [e, e5, e3, cs.1, cs.2.2]
  exact ⟨⟨⟨t, Or.inr rfl, by omega, by omega, lz, cs.2.1⟩, by omega, fun _ => rfl, fun c => absurd c (by decide)⟩, l0, lb, fun c => absurd c (by decide), rfl, by omega⟩
/-- page j of a new night -/
def PgI (h : am_H) (z j : Nat) : Prop := am_ty h (z + 13 + 2 * j) = 4 ∧ (am_fi h 33 (z + 13 + 2 * j) = 1 ∧ am_fi h 34 (z + 13 + 2 * j) = 20 ∧ am_fi h 35 (z + 13 + 2 * j) = -1 ∧ am_fi h 36 (z + 13 + 2 * j) = 0) ∧ am_fr h 37 (z + 13 + 2 * j) = z + 14 + 2 * j ∧ am_ty h (z + 14 + 2 * j) = 101 ∧ am_ln h (z + 14 + 2 * j) = 0
theorem PgI_fx {h h' : am_H} {z j m : Nat} (a : fx (fun q => q = z + 9) h h') (hm : am_sz h = z + 12 + 2 * m) (hj : j < m) (x : PgI h z j) : PgI h' z j := by
  obtain ⟨x1, x2, x3, x4, x5⟩ := x
  have k1 := a.2.2.2 (z + 13 + 2 * j) (by omega)
  have k2 := a.2.2.2 (z + 14 + 2 * j) (by omega)
  have k3 := k1.2.2 (fun e => by omega)
  unfold PgI
  rw [k1.1, k3.1, k3.1, k3.1, k3.1, k3.2.1, k2.1, k2.2.1]
  exact ⟨x1, x2, x3, x4, x5⟩
/-- tags, lengths and places of a new night's first cells -/
def tgN : Nat → Nat
  | 1 => 110
  | 2 => 101
  | 3 => 101
  | 4 => 111
  | 5 => 31
  | 6 => 112
  | 7 => 31
  | 8 => 31
  | 9 => 113
  | 10 => 31
  | 11 => 101
  | 12 => 101
  | _ => 0
def lnN : Nat → Int
  | 1 => 2
  | 2 => 27
  | 3 => 27
  | 4 => 100
  | 5 => 3
  | 6 => 4
  | 7 => 3
  | 8 => 3
  | 9 => 6
  | 10 => 3
  | 11 => 32
  | 12 => 32
  | _ => 0
def rfN : Nat → Nat
  | 19 => 1
  | 20 => 4
  | 22 => 5
  | 23 => 6
  | 25 => 7
  | 26 => 8
  | 27 => 9
  | 28 => 10
  | 30 => 11
  | 31 => 12
  | _ => 0
/-- the first cells -/
def NIF (h : am_H) (N P : Nat) (h1 : am_H) : Prop := (fx (fun q => q = N) h h1 ∧ am_sz h1 = (am_sz h) + 12 ∧ am_us h1 = am_us h + 242) ∧ (∀ k, 0 < k → k ≤ 12 → am_ty h1 ((am_sz h) + k) = tgN k ∧ am_ln h1 ((am_sz h) + k) = lnN k) ∧ (∀ f, rfN f ≠ 0 → am_fr h1 f N = (am_sz h) + rfN f) ∧ am_fr h1 17 N = P ∧ (∀ f, am_fi h1 f N = am_fi h f N) ∧ (∀ k, k = 5 ∨ k = 7 ∨ k = 8 ∨ k = 10 → am_fr h1 194 ((am_sz h) + k) = am_cs h 0 ∧ am_fi h1 195 ((am_sz h) + k) = 0 ∧ am_fi h1 193 ((am_sz h) + k) = 0) ∧ am_ar h1 ((am_sz h) + 4) = (fun _ => 0) ∧ (am_ar h1 ((am_sz h) + 1) 0 = (am_sz h) + 2 ∧ am_ar h1 ((am_sz h) + 1) 1 = (am_sz h) + 3)
theorem nI_F {h : am_H} {N P : Nat} (hN : N ≤ am_sz h) : NIF h N P (nI33 h N P) := by
  refine ⟨⟨nI_fx, rfl, rfl⟩, fun k k0 k1 => ?_, fun f hf => ?_, nI_N17 hN, fun f => nI_Nf hN, fun k hk => ?_, nI_p4 hN, ?_, ?_⟩
  · have : k = 1 ∨ k = 2 ∨ k = 3 ∨ k = 4 ∨ k = 5 ∨ k = 6 ∨ k = 7 ∨ k = 8 ∨ k = 9 ∨ k = 10 ∨ k = 11 ∨ k = 12 := by omega
    rcases this with rfl | rfl | rfl | rfl | rfl | rfl | rfl | rfl | rfl | rfl | rfl | rfl
    · exact ⟨nI_ty1 hN, nI_ln1 hN⟩
    · exact ⟨nI_ty2 hN, nI_ln2 hN⟩
    · exact ⟨nI_ty3 hN, nI_ln3 hN⟩
    · exact ⟨nI_ty4 hN, nI_ln4 hN⟩
    · exact ⟨nI_ty5 hN, nI_ln5 hN⟩
    · exact ⟨nI_ty6 hN, nI_ln6 hN⟩
    · exact ⟨nI_ty7 hN, nI_ln7 hN⟩
    · exact ⟨nI_ty8 hN, nI_ln8 hN⟩
    · exact ⟨nI_ty9 hN, nI_ln9 hN⟩
    · exact ⟨nI_ty10 hN, nI_ln10 hN⟩
    · exact ⟨nI_ty11 hN, nI_ln11 hN⟩
    · exact ⟨nI_ty12 hN, nI_ln12 hN⟩
  · have : f = 19 ∨ f = 20 ∨ f = 22 ∨ f = 23 ∨ f = 25 ∨ f = 26 ∨ f = 27 ∨ f = 28 ∨ f = 30 ∨ f = 31 := by
      unfold rfN at hf
      split at hf <;> first | omega | exact absurd rfl hf
    rcases this with rfl | rfl | rfl | rfl | rfl | rfl | rfl | rfl | rfl | rfl
    · exact nI_N19 hN
    · exact nI_N20 hN
    · exact nI_N22 hN
    · exact nI_N23 hN
    · exact nI_N25 hN
    · exact nI_N26 hN
    · exact nI_N27 hN
    · exact nI_N28 hN
    · exact nI_N30 hN
    · exact nI_N31 hN
  · rcases hk with rfl | rfl | rfl | rfl
    · exact ⟨nI_l5a hN, nI_l5n hN, nI_l5m hN⟩
    · exact ⟨nI_l7a hN, nI_l7n hN, nI_l7m hN⟩
    · exact ⟨nI_l8a hN, nI_l8n hN, nI_l8m hN⟩
    · exact ⟨nI_l10a hN, nI_l10n hN, nI_l10m hN⟩
  · rw [nI_p1 hN]
    rfl
  · rw [nI_p1 hN]
    rfl
theorem tgN_im {k : Nat} (h0 : 0 < k) (h1 : k ≤ 12) : ¬ imT (tgN k) := by
  have : k = 1 ∨ k = 2 ∨ k = 3 ∨ k = 4 ∨ k = 5 ∨ k = 6 ∨ k = 7 ∨ k = 8 ∨ k = 9 ∨ k = 10 ∨ k = 11 ∨ k = 12 := by omega
  unfold imT
  rcases this with rfl | rfl | rfl | rfl | rfl | rfl | rfl | rfl | rfl | rfl | rfl | rfl <;> decide
/-- what is there when widths and pages are -/
def NIE (h : am_H) (h1 h2 h' : am_H) : Prop := (fx (fun q => q = (am_sz h) + 2 ∨ q = (am_sz h) + 3) h1 h2 ∧ am_sz h2 = am_sz h1) ∧ (∀ i, 0 ≤ i → i < 27 → am_ai h2 ((am_sz h) + 2) i = 4 ∧ am_ai h2 ((am_sz h) + 3) i = 4) ∧ (fx (fun q => q = (am_sz h) + 9) h2 h' ∧ am_sz h' = (am_sz h) + 24) ∧ ∀ j : Nat, j < 6 → am_ar h' ((am_sz h) + 9) (j : Int) = (am_sz h) + 13 + 2 * j ∧ PgI h' (am_sz h) j
theorem NIE_o {h h1 h2 h' : am_H} (s1 : am_sz h1 = (am_sz h) + 12) (e : NIE h h1 h2 h') {q : Nat} (hq : q ≤ am_sz h1) : am_ty h' q = am_ty h1 q ∧ am_ln h' q = am_ln h1 q := by
  obtain ⟨⟨f2, s2⟩, _, ⟨f', s'⟩, _⟩ := e
  have a := f2.2.2.2 q hq
  have b := f'.2.2.2 q (by omega)
  exact ⟨b.1.trans a.1, b.2.1.trans a.2.1⟩
theorem NIE_k {h h1 h2 h' : am_H} (s1 : am_sz h1 = (am_sz h) + 12) (e : NIE h h1 h2 h') {q : Nat} (hq : q ≤ am_sz h1) (c2 : q ≠ (am_sz h) + 2) (c3 : q ≠ (am_sz h) + 3) (c9 : q ≠ (am_sz h) + 9) : (∀ f, am_fi h' f q = am_fi h1 f q) ∧ (∀ f, am_fr h' f q = am_fr h1 f q) ∧ am_ai h' q = am_ai h1 q ∧ am_ar h' q = am_ar h1 q := by
  obtain ⟨⟨f2, s2⟩, _, ⟨f', s'⟩, _⟩ := e
  have a := (f2.2.2.2 q hq).2.2 (fun e => e.elim c2 c3)
  have b := (f'.2.2.2 q (by omega)).2.2 c9
  exact ⟨fun f => (b.1 f).trans (a.1 f), fun f => (b.2.1 f).trans (a.2.1 f), b.2.2.1.trans a.2.2.1, b.2.2.2.trans a.2.2.2⟩
theorem ni_ok {h h1 h2 h' : am_H} {L : am_Lb} {N P : Nat} (ok : okLb h L) (F : NIF h N P h1) (E : NIE h h1 h2 h') (fA : fx (fun q => q = N) h h') : okLb h' (lbN L h N) := by
  have s1 := F.1.2.1
  have s' := E.2.2.1.2
  refine ⟨?_, fun q hq im => ?_, fun q hq => ?_⟩
  · exact (fA.2.2.2 0 (Nat.zero_le _)).1.trans ok.1
  · by_cases c : q ≤ (am_sz h)
    · rw [lbN_o c]
      exact ok.2.1 q c (by rw [← (fA.2.2.2 q c).1]; exact im)
    · obtain ⟨k, rfl⟩ : ∃ k, q = (am_sz h) + k := ⟨q - (am_sz h), by omega⟩
      rw [lbN_n (by omega)]
      by_cases k12 : k ≤ 12
      · rw [(NIE_o s1 E (q := (am_sz h) + k) (by omega)).1, (F.2.1 k (by omega) k12).1] at im
        exact absurd im (tgN_im (by omega) k12)
      · by_cases c2 : (k - 13) % 2 = 0
        · have q := (E.2.2.2 ((k - 13) / 2) (by omega)).2.1
          have e : (am_sz h) + 13 + 2 * ((k - 13) / 2) = (am_sz h) + k := by omega
          rw [e] at q
          rw [q] at im
          unfold imT at im
          omega
        · have e : k = 14 + 2 * ((k - 14) / 2) := by omega
          rw [e, (lbT_p (by omega)).2]
  · obtain ⟨k, rfl⟩ : ∃ k, q = (am_sz h) + k := ⟨q - (am_sz h), by omega⟩
    rw [lbN_n (by omega)]
    have k24 : 24 < k := by omega
    unfold lbT
    split <;> first | omega | rfl
theorem ni_lst {h h1 h2 h' : am_H} {L : am_Lb} {N P : Nat} (cs : (am_ty h' (am_cs h' 0) = 134 ∧ am_cs h' 0 ≤ am_sz h' ∧ am_ln h' (am_cs h' 0) = 0)) (F : NIF h N P h1) (E : NIE h h1 h2 h') (c0 : am_cs h' = am_cs h) {k g : Nat} (hk : k = 5 ∨ k = 7 ∨ k = 8 ∨ k = 10) (e : lbT N k = (N, g, 0, 0)) : rL h' (lbN L h N) ((am_sz h) + k) N g 0 0 0 0 ∧ am_fr h' 194 ((am_sz h) + k) = am_cs h' 0 ∧ am_fi h' 193 ((am_sz h) + k) = 0 := by
  have s1 := F.1.2.1
  have s' := E.2.2.1.2
  have k0 : 0 < k ∧ k ≤ 12 ∧ k ≠ 2 ∧ k ≠ 3 ∧ k ≠ 9 := by omega
  have ty : tgN k = 31 := by
    rcases hk with rfl | rfl | rfl | rfl <;> rfl
  obtain ⟨l1, l2, l3⟩ := F.2.2.2.2.2.1 k hk
  have kp := NIE_k s1 E (q := (am_sz h) + k) (by omega) (by omega) (by omega) (by omega)
  have ea : am_fr h' 194 ((am_sz h) + k) = am_cs h' 0 := by
    rw [kp.2.1 194, l1, c0]
  have e3 : am_fi h' 193 ((am_sz h) + k) = 0 := (kp.1 193).trans l3
  exact ⟨rL_0 ((NIE_o s1 E (q := (am_sz h) + k) (by omega)).1.trans ((F.2.1 k k0.1 k0.2.1).1.trans ty)) (by omega) (by omega) ((lbN_n k0.1).trans e) cs ea ((kp.1 195).trans l2) e3 (Int.le_refl _), ea, e3⟩
theorem ni_fin {h h1 h2 h' : am_H} {L : am_Lb} {N P : Nat} (tN : nd h L N 3 N 0 0 0) (cs : (am_ty h (am_cs h 0) = 134 ∧ am_cs h 0 ≤ am_sz h ∧ am_ln h (am_cs h 0) = 0)) (f0 : ∀ f, am_fi h f N = 0) (F : NIF h N P h1) (E : NIE h h1 h2 h') (fA : fx (fun q => q = N) h h') : CpI h' (lbN L h N) N P (fun _ => 0) nt0 nt0 nt0 nt0 nt0 nt0 nt0 nt0 nt0 0 ∧ ∀ f, f = 22 ∨ f = 25 ∨ f = 26 ∨ f = 28 → am_fr h' 194 (am_fr h' f N) = am_cs h' 0 ∧ am_fi h' 193 (am_fr h' f N) = 0 := by
  have s1 := F.1.2.1
  have s' := E.2.2.1.2
  have hN := tN.2.1
  have N0 := tN.2.2.1
  have csn : (am_ty h' (am_cs h' 0) = 134 ∧ am_cs h' 0 ≤ am_sz h' ∧ am_ln h' (am_cs h' 0) = 0) := cs_fx fA cs
  have c0 := fA.2.2.1
  have kN := NIE_k s1 E (q := N) (by omega) (by omega) (by omega) (by omega)
  have fr : ∀ f, rfN f ≠ 0 → am_fr h' f N = (am_sz h) + rfN f := fun f hf => (kN.2.1 f).trans (F.2.2.1 f hf)
  have ndc : ∀ k a b c i, 0 < k → k ≤ 12 → lbT N k = (a, b, c, i) → nd h' (lbN L h N) ((am_sz h) + k) (tgN k) a b c i := fun k a b c i k0 k12 e => ⟨(NIE_o s1 E (q := (am_sz h) + k) (by omega)).1.trans (F.2.1 k k0 k12).1, by omega, by omega, (lbN_n k0).trans e⟩
  have lnc : ∀ k, 0 < k → k ≤ 12 → am_ln h' ((am_sz h) + k) = lnN k := fun k k0 k12 => (NIE_o s1 E (q := (am_sz h) + k) (by omega)).2.trans (F.2.1 k k0 k12).2
  have l5 := ni_lst (L := L) csn F E c0 (k := 5) (g := 6) (by decide) rfl
  have l7 := ni_lst (L := L) csn F E c0 (k := 7) (g := 4) (by decide) rfl
  have l8 := ni_lst (L := L) csn F E c0 (k := 8) (g := 7) (by decide) rfl
  have l10 := ni_lst (L := L) csn F E c0 (k := 10) (g := 9) (by decide) rfl
  refine ⟨⟨⟨(fA.2.2.2 N hN).1.trans tN.1, by omega, N0, (lbN_o hN).trans tN.2.2.2⟩, (kN.2.1 17).trans F.2.2.2.1, fun f => (kN.1 f).trans ((F.2.2.2.2.1 f).trans (f0 f)), ?_, ?_, ?_, ?_, ?_, ?_, ?_, ?_, ?_⟩, fun f hf => ?_⟩
  · rw [fr 19 (by decide)]
    refine ⟨ndc 1 _ _ _ _ (by decide) (by decide) rfl, lnc 1 (by decide) (by decide), fun f a b => ?_⟩
    have k1 := NIE_k s1 E (q := (am_sz h) + 1) (by omega) (by omega) (by omega) (by omega)
    show nd h' (lbN L h N) (am_ar h' ((am_sz h) + 1) f) 101 N 1 1 f ∧ xW h' (am_ar h' ((am_sz h) + 1) f) (nt0 1 f)
    rw [k1.2.2.2]
    obtain ⟨⟨f2, s2⟩, w2, ⟨f', s''⟩, _⟩ := E
    have z2 := (f'.2.2.2 ((am_sz h) + 2) (by omega)).2.2 (fun e => absurd e (by omega))
    have z3 := (f'.2.2.2 ((am_sz h) + 3) (by omega)).2.2 (fun e => absurd e (by omega))
    have f01 : f = 0 ∨ f = 1 := by omega
    rcases f01 with rfl | rfl
    · rw [F.2.2.2.2.2.2.2.1]
      have n2 := ndc 2 _ _ _ _ (by decide) (by decide) rfl
      exact ⟨n2, n2.1, lnc 2 (by decide) (by decide), fun i i0 i1 => by rw [z2.2.2.1]; exact (w2 i i0 i1).1, n2.2.1⟩
    · rw [F.2.2.2.2.2.2.2.2]
      have n2 := ndc 3 _ _ _ _ (by decide) (by decide) rfl
      exact ⟨n2, n2.1, lnc 3 (by decide) (by decide), fun i i0 i1 => by rw [z3.2.2.1]; exact (w2 i i0 i1).2, n2.2.1⟩
  · rw [fr 20 (by decide)]
    refine ⟨ndc 4 _ _ _ _ (by decide) (by decide) rfl, lnc 4 (by decide) (by decide), fun p _ _ => ⟨fun _ => ?_, fun c => ?_⟩⟩
    · show am_ar h' ((am_sz h) + 4) p = 0
      rw [(NIE_k s1 E (q := (am_sz h) + 4) (by omega) (by omega) (by omega) (by omega)).2.2.2, F.2.2.2.2.2.2.1]
    · have c2 : p / 5 < 0 := c.2.1
      have c1 := c.1
      exact absurd c2 (by omega)
  · rw [fr 22 (by decide)]
    exact ⟨l5.1, fun k a b => absurd b (by show ¬ k < 0; omega)⟩
  · rw [fr 23 (by decide)]
    exact ⟨ndc 6 _ _ _ _ (by decide) (by decide) rfl, lnc 6 (by decide) (by decide), fun k a b => absurd b (by show ¬ k < 0; omega)⟩
  · rw [fr 25 (by decide)]
    exact ⟨l7.1, fun k a b => absurd b (by show ¬ k < 0; omega)⟩
  · rw [fr 26 (by decide)]
    exact ⟨l8.1, fun k a b => absurd b (by show ¬ k < 0; omega)⟩
  · rw [fr 27 (by decide)]
    refine ⟨ndc 9 _ _ _ _ (by decide) (by decide) rfl, lnc 9 (by decide) (by decide), fun p a b => ?_⟩
    have epp : ((p.toNat : Nat) : Int) = p := by omega
    have q := E.2.2.2 p.toNat (by omega)
    rw [epp] at q
    show rPg h' (lbN L h N) N nt0 p (am_ar h' ((am_sz h) + 9) p)
    rw [q.1]
    obtain ⟨g1, g2, g3, g4, g5⟩ := q.2
    have lp := lbT_p (N := N) (j := p.toNat) (by omega)
    rw [epp] at lp
    refine ⟨⟨g1, by omega, by omega, ?_⟩, g2.1, g2.2.1, g2.2.2.1, g2.2.2.2, ?_⟩
    · have e : (am_sz h) + 13 + 2 * p.toNat = (am_sz h) + (13 + 2 * p.toNat) := by omega
      rw [e, lbN_n (by omega)]
      exact lp.1
    · rw [g3]
      refine ⟨g4, by omega, by omega, ?_, g5, fun l a b => absurd b (by show ¬ l < 0; omega)⟩
      have e : (am_sz h) + 14 + 2 * p.toNat = (am_sz h) + (14 + 2 * p.toNat) := by omega
      rw [e, lbN_n (by omega), lp.2]
  · rw [fr 28 (by decide)]
    exact ⟨l10.1, fun k a b => absurd b (by show ¬ k < 0; omega)⟩
  · rw [fr 30 (by decide), fr 31 (by decide)]
    exact ⟨ndc 11 _ _ _ _ (by decide) (by decide) rfl, ndc 12 _ _ _ _ (by decide) (by decide) rfl, lnc 11 (by decide) (by decide), lnc 12 (by decide) (by decide), fun i k a b => absurd b (by show ¬ i < 0; omega)⟩
  · rcases hf with rfl | rfl | rfl | rfl
    · rw [fr 22 (by decide)]
      exact l5.2
    · rw [fr 25 (by decide)]
      exact l7.2
    · rw [fr 26 (by decide)]
      exact l8.2
    · rw [fr 28 (by decide)]
      exact l10.2
/-- a page's cells are made -/
theorem PgI_new {h' : am_H} {z j : Nat} (q1 : am_sz h' + 1 = z + 13 + 2 * j) : fx (fun _ => False) h' (am_sfr (am_new (am_sfi (am_sfi (am_sfi (am_new h' 4 5) 33 (am_sz h' + 1) 1) 34 (am_sz h' + 1) 20) 35 (am_sz h' + 1) (-1)) 101 0) 37 (am_sz h' + 1) (am_sz h' + 1 + 1)) ∧ PgI (am_sfr (am_new (am_sfi (am_sfi (am_sfi (am_new h' 4 5) 33 (am_sz h' + 1) 1) 34 (am_sz h' + 1) 20) 35 (am_sz h' + 1) (-1)) 101 0) 37 (am_sz h' + 1) (am_sz h' + 1 + 1)) z j ∧ am_sz (am_sfr (am_new (am_sfi (am_sfi (am_sfi (am_new h' 4 5) 33 (am_sz h' + 1) 1) 34 (am_sz h' + 1) 20) 35 (am_sz h' + 1) (-1)) 101 0) 37 (am_sz h' + 1) (am_sz h' + 1 + 1)) = am_sz h' + 2 ∧ am_us (am_sfr (am_new (am_sfi (am_sfi (am_sfi (am_new h' 4 5) 33 (am_sz h' + 1) 1) 34 (am_sz h' + 1) 20) 35 (am_sz h' + 1) (-1)) 101 0) 37 (am_sz h' + 1) (am_sz h' + 1 + 1)) = am_us h' + 5 := by
  have q2 : am_sz h' + 1 + 1 = z + 14 + 2 * j := by omega
  refine ⟨fx_sfr (fx_new (fx_sfi (fx_sfi (fx_sfi (fx_new fx_refl) (Or.inl (by omega))) (Or.inl (by omega))) (Or.inl (by omega)))) (Or.inl (by omega)), ?_, rfl, rfl⟩
  unfold PgI
  rw [← q1, ← q2]
  refine ⟨?_, ⟨?_, ?_, ?_, ?_⟩, x_fre, x_tyn0 (h := am_new h' 4 5) (t := 101) (n := 0) rfl, x_lnn0 (h := am_new h' 4 5) (t := 101) (n := 0) rfl⟩
  · exact (x_tyn (h := am_new h' 4 5) (t := 101) (n := 0) (Nat.le_refl _)).trans (x_tyn0 (h := h') (t := 4) (n := 5) rfl)
  · exact (x_fin (h := (am_sfi (am_sfi (am_sfi (am_new h' 4 5) 33 (am_sz h' + 1) 1) 34 (am_sz h' + 1) 20) 35 (am_sz h' + 1) (-1))) (t := 101) (n := 0) (Nat.le_refl _)).trans ((x_fif (by decide)).trans ((x_fif (by decide)).trans x_fie))
  · exact (x_fin (h := (am_sfi (am_sfi (am_sfi (am_new h' 4 5) 33 (am_sz h' + 1) 1) 34 (am_sz h' + 1) 20) 35 (am_sz h' + 1) (-1))) (t := 101) (n := 0) (Nat.le_refl _)).trans ((x_fif (by decide)).trans x_fie)
  · exact (x_fin (h := (am_sfi (am_sfi (am_sfi (am_new h' 4 5) 33 (am_sz h' + 1) 1) 34 (am_sz h' + 1) 20) 35 (am_sz h' + 1) (-1))) (t := 101) (n := 0) (Nat.le_refl _)).trans x_fie
  · exact (x_fin (h := (am_sfi (am_sfi (am_sfi (am_new h' 4 5) 33 (am_sz h' + 1) 1) 34 (am_sz h' + 1) 20) 35 (am_sz h' + 1) (-1))) (t := 101) (n := 0) (Nat.le_refl _)).trans ((x_fif (by decide)).trans ((x_fif (by decide)).trans ((x_fif (by decide)).trans (x_fin0 rfl))))
section
variable {K : am_K} {h : am_H}
/-- the pages -/
theorem ni_73 {h1 h2 : am_H} {N P d : Nat} (tN : am_ty h1 N = 3 ∧ N ≤ (am_sz h)) (F : NIF h N P h1) (f2 : fx (fun q => q = (am_sz h) + 2 ∨ q = (am_sz h) + 3) h1 h2) (s2 : am_sz h2 = am_sz h1) (w2 : ∀ i, 0 ≤ i → i < 27 → am_ai h2 ((am_sz h) + 2) i = 4 ∧ am_ai h2 ((am_sz h) + 3) i = 4) (H : ∀ h', NIE h h1 h2 h' → am_us h' = am_us h2 + 30 → K (.inl none) h') : ∀ o3, am_W m_X3_init (am_ev am_prog (d + 12)) K 73 [some (.inr (.inl (N))), some (.inr (.inl (P))), some (.inl (0)), o3] [] h2 := by
  intro o3
  have s1 := F.1.2.1
  have oN := f2.2.2.2 N (by omega)
  have oN' := oN.2.2 (fun e => absurd e (by omega))
  have tN2 : am_ty h2 N = 3 := oN.1.trans tN.1
  have r27 : am_fr h2 27 N = (am_sz h) + 9 := (oN'.2.1 27).trans (F.2.2.1 27 (by decide))
  have o9 := f2.2.2.2 ((am_sz h) + 9) (by omega)
  have F9 := F.2.1 9 (by decide) (by decide)
  have t9 : am_ty h2 ((am_sz h) + 9) = 113 := o9.1.trans F9.1
  have n9 : am_ln h2 ((am_sz h) + 9) = 6 := o9.2.1.trans F9.2
  have loop : ∀ p, 0 ≤ p → p ≤ 6 → ∀ h', fx (fun q => q = (am_sz h) + 9) h2 h' → am_sz h' = (am_sz h) + 12 + 2 * p.toNat → am_us h' = am_us h2 + 5 * p.toNat → (∀ j : Nat, (j : Int) < p → am_ar h' ((am_sz h) + 9) (j : Int) = (am_sz h) + 13 + 2 * j ∧ PgI h' (am_sz h) j) → am_W m_X3_init (am_ev am_prog (d + 12)) K 73 [some (.inr (.inl (N))), some (.inr (.inl (P))), some (.inl (p)), o3] [] h' := by
    refine lp_z ?_ ?_
    · intro p p0 p1 hL h' f' s' u' pg
      have kN := f'.2.2.2 N (by omega)
      have kN' := kN.2.2 (fun e => absurd e (by omega))
      have k9 := f'.2.2.2 ((am_sz h) + 9) (by omega)
      refine v_X3_init_73 ⟨fun c => absurd c (by omega), fun _ => ⟨kN.1.trans tN2, ?_⟩⟩
      rw [kN'.2.1 27, r27, k9.1, k9.2.1, t9, n9]
      refine ⟨⟨by omega, rfl, by omega⟩, by omega, ?_⟩
      have ep : (p + 1).toNat = p.toNat + 1 := by omega
      obtain ⟨b1, pn, sn, un⟩ := PgI_new (h' := h') (z := (am_sz h)) (j := p.toNat) (by omega)
      have q1 : am_sz h' + 1 = (am_sz h) + 13 + 2 * p.toNat := by omega
      generalize (am_sfr (am_new (am_sfi (am_sfi (am_sfi (am_new h' 4 5) 33 (am_sz h' + 1) 1) 34 (am_sz h' + 1) 20) 35 (am_sz h' + 1) (-1)) 101 0) 37 (am_sz h' + 1) (am_sz h' + 1 + 1)) = hp at *
      have b2 : fx (fun q => q = (am_sz h) + 9) hp (am_sar hp ((am_sz h) + 9) p (am_sz h' + 1)) := fx_sar fx_refl (Or.inr rfl)
      have s9 : am_sz (am_sar hp ((am_sz h) + 9) p (am_sz h' + 1)) = am_sz hp := rfl
      have u9 : am_us (am_sar hp ((am_sz h) + 9) p (am_sz h' + 1)) = am_us hp := rfl
      have ar9 : am_ar (am_sar hp ((am_sz h) + 9) p (am_sz h' + 1)) ((am_sz h) + 9) = am_uz (am_ar hp ((am_sz h) + 9)) p (am_sz h' + 1) := x_arse
      have bo := (b1.2.2.2 ((am_sz h) + 9) (by omega)).2.2 (fun e => e)
      have f'' : fx (fun q => q = (am_sz h) + 9) h2 (am_sar hp ((am_sz h) + 9) p (am_sz h' + 1)) := fx_trans (fx_trans2 f' b1 (fun _ _ e => e.elim)) b2
      refine hL _ f'' (by omega) (by omega) (fun j hj => ?_)
      rw [ar9]
      by_cases e : (j : Int) = p
      · have ej : j = p.toNat := by omega
        rw [e, am_uz_eq, ej]
        exact ⟨q1, PgI_fx (m := p.toNat + 1) b2 (by omega) (by omega) pn⟩
      · have q := pg j (by omega)
        rw [am_uz_ne e, bo.2.2.2]
        exact ⟨q.1, PgI_fx (m := p.toNat + 1) b2 (by omega) (by omega) (PgI_fx (m := p.toNat) (fx_sub b1 (fun _ _ e => e.elim)) (by omega) (by omega) q.2)⟩
    · intro h' f' s' u' pg
      refine v_X3_init_73 ⟨fun _ => ?_, fun c => absurd c (by omega)⟩
      exact H h' ⟨⟨f2, s2⟩, w2, ⟨f', s'⟩, fun j hj => pg j (by omega)⟩ u'
  exact loop 0 (by omega) (by omega) h2 fx_refl (by rw [s2, s1]; rfl) rfl (fun j hj => absurd hj (by omega))
/-- the widths of one face -/
theorem ni_57 {h1 : am_H} {N P d : Nat} (tN : am_ty h1 N = 3 ∧ N ≤ (am_sz h)) (F : NIF h N P h1) {f : Int} (hf : f = 0 ∨ f = 1) (nx : ∀ h', fx (fun q => q = (am_sz h) + 2 ∨ q = (am_sz h) + 3) h1 h' → am_sz h' = am_sz h1 → am_us h' = am_us h1 → (f = 1 → ∀ i, 0 ≤ i → i < 27 → am_ai h' ((am_sz h) + 2) i = 4) → (∀ i, 0 ≤ i → i < 27 → am_ai h' ((am_sz h) + 2 + f.toNat) i = 4) → ∀ o3, am_W m_X3_init (am_ev am_prog (d + 12)) K 52 [some (.inr (.inl (N))), some (.inr (.inl (P))), some (.inl (f + 1)), o3] [] h') : ∀ k, 0 ≤ k → k ≤ 27 → ∀ h', fx (fun q => q = (am_sz h) + 2 ∨ q = (am_sz h) + 3) h1 h' → am_sz h' = am_sz h1 → am_us h' = am_us h1 → (f = 1 → ∀ i, 0 ≤ i → i < 27 → am_ai h' ((am_sz h) + 2) i = 4) → (∀ i, 0 ≤ i → i < k → am_ai h' ((am_sz h) + 2 + f.toNat) i = 4) → am_W m_X3_init (am_ev am_prog (d + 12)) K 57 [some (.inr (.inl (N))), some (.inr (.inl (P))), some (.inl (f)), some (.inl (k))] [] h' := by
  have s1 := F.1.2.1
  have e19 := F.2.2.1 19 (by decide)
  have F1 := F.2.1 1 (by decide) (by decide)
  have ae : am_ar h1 ((am_sz h) + 1) f = (am_sz h) + 2 + f.toNat := by
    rcases hf with rfl | rfl
    · exact F.2.2.2.2.2.2.2.1
    · exact F.2.2.2.2.2.2.2.2
  have te : am_ty h1 ((am_sz h) + 2 + f.toNat) = 101 ∧ am_ln h1 ((am_sz h) + 2 + f.toNat) = 27 := by
    rcases hf with rfl | rfl
    · exact F.2.1 2 (by decide) (by decide)
    · exact F.2.1 3 (by decide) (by decide)
  refine lp_z ?_ ?_
  · intro k k0 k1 hL h' f' s' u' w0 w1
    have kN := f'.2.2.2 N (by omega)
    have kN' := kN.2.2 (fun e => absurd e (by omega))
    have z1 := f'.2.2.2 ((am_sz h) + 1) (by omega)
    have z1' := z1.2.2 (fun e => absurd e (by omega))
    have zf := f'.2.2.2 ((am_sz h) + 2 + f.toNat) (by omega)
    refine v_X3_init_57 ⟨fun c => absurd c (by omega), fun _ => ?_⟩
    have e1 : rfN 19 = 1 := rfl
    rw [kN.1, kN'.2.1 19, e19, e1, z1.1, z1.2.1, z1'.2.2.2, ae, zf.1, zf.2.1, F1.1, F1.2, te.1, te.2]
    refine ⟨⟨tN.1, rfl, by show 0 ≤ f ∧ f < 2; omega, rfl, by omega⟩, by omega, ?_⟩
    have ai : am_ai (am_sai h' ((am_sz h) + 2 + f.toNat) k 4) ((am_sz h) + 2 + f.toNat) = am_uz (am_ai h' ((am_sz h) + 2 + f.toNat)) k 4 := x_aise
    refine hL _ (fx_sai f' (Or.inr (by omega))) s' u' (fun e i i0 i1 => ?_) (fun i i0 i1 => ?_)
    · rw [x_ais (by omega)]
      exact w0 e i i0 i1
    · rw [ai]
      by_cases e : i = k
      · rw [e, am_uz_eq]
      · rw [am_uz_ne e]
        exact w1 i i0 (by omega)
  · intro h' f' s' u' w0 w1
    exact v_X3_init_57 ⟨fun _ => ⟨by omega, nx h' f' s' u' w0 w1 _⟩, fun c => absurd c (by omega)⟩
theorem x_ninit {L : am_Lb} {N P D : Nat} (hD : 13 ≤ D) (tN : nd h L N 3 N 0 0 0) (ok : okLb h L) (cs : (am_ty h (am_cs h 0) = 134 ∧ am_cs h 0 ≤ am_sz h ∧ am_ln h (am_cs h 0) = 0)) (f0 : ∀ f, am_fi h f N = 0) (H : ∀ h', fx (fun q => q = N) h h' → okLb h' (lbN L h N) → CpI h' (lbN L h N) N P (fun _ => 0) nt0 nt0 nt0 nt0 nt0 nt0 nt0 nt0 nt0 0 → (∀ f, f = 22 ∨ f = 25 ∨ f = 26 ∨ f = 28 → am_fr h' 194 (am_fr h' f N) = am_cs h' 0 ∧ am_fi h' 193 (am_fr h' f N) = 0) → am_sz h' = (am_sz h) + 24 → am_us h' = am_us h + 272 → K (.inl none) h') : am_ev am_prog D 99 [.inr (.inl N), .inr (.inl P)] h K := by
  have hN := tN.2.1
  obtain ⟨d, rfl⟩ : ∃ d, D = d + 13 := ⟨D - 13, by omega⟩
  refine am_en p_X3_init rfl rfl ?_
  refine v_X3_init_0 ⟨tN.1, hN, ?_⟩
  show am_W m_X3_init (am_ev am_prog (d + 12)) K 52 [some (.inr (.inl (N))), some (.inr (.inl (P))), some (.inl (0)), _] [] (nI33 h N P)
  have F := nI_F (P := P) hN
  generalize nI33 h N P = h1 at *
  have t1 : am_ty h1 N = 3 ∧ N ≤ (am_sz h) := ⟨(F.1.1.2.2.2 N hN).1.trans tN.1, hN⟩
  have s1 := F.1.2
  refine v_X3_init_52 ⟨fun c => absurd c (by decide), fun _ => ?_⟩
  refine ni_57 t1 F (Or.inl rfl) (fun h' f' s' u' _ w0 o3 => v_X3_init_52 ⟨fun c => absurd c (by decide), fun _ => ?_⟩) 0 (by decide) (by decide) h1 fx_refl rfl rfl (fun e => absurd e (by decide)) (fun i a b => absurd b (by omega))
  refine ni_57 t1 F (Or.inr rfl) (fun h2 f2 s2 u2 w2 w3 o3 => v_X3_init_52 ⟨fun _ => ni_73 t1 F f2 s2 (fun i a b => ⟨w2 rfl i a b, w3 i a b⟩) (fun h3 E u3 => ?_) _, fun c => absurd c (by decide)⟩) 0 (by decide) (by decide) h' f' s' u' (fun _ => w0) (fun i a b => absurd b (by omega))
  have fA : fx (fun q => q = N) h h3 := fx_trans2 (fx_trans2 F.1.1 f2 (fun q hq e => absurd e (by omega))) E.2.2.1.1 (fun q hq e => absurd e (by omega))
  have q := ni_fin (L := L) tN cs f0 F E fA
  exact H h3 fA (ni_ok ok F E fA) q.1 q.2 E.2.2.1.2 (by omega)
end
