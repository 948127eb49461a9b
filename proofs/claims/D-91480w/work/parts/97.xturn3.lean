set_option maxRecDepth 100000
/-! a machine's turn, whole -/
def capB (h : am_H) (P : Nat) : Int := am_ln h (am_fr h 185 (am_fr h 15 P))
/-- the jobs are right -/
def okJ (S : am_G) : Prop := (∀ k i, 0 ≤ k → k < S 0 0 3 → 0 ≤ i → i < S 5 k 29 → (S 5 k (37 + 5 * i) = 0 → S 3 (S 5 k (33 + 5 * i)) 3 = 1 ∧ S 5 k (34 + 5 * i) < S 5 k (35 + 5 * i) ∧ S 5 k (35 + 5 * i) ≤ S 3 (S 5 k (33 + 5 * i)) 4) ∧ (S 5 k (37 + 5 * i) ≠ 0 → (S 3 (S 5 k (33 + 5 * i)) 3 = 0 → S 5 k (34 + 5 * i) = 0) ∧ (S 3 (S 5 k (33 + 5 * i)) 3 = 1 → S 5 k (34 + 5 * i) < S 3 (S 5 k (33 + 5 * i)) 4))) ∧ (∀ k i k' i', 0 ≤ k → k < S 0 0 3 → 0 ≤ i → i < S 5 k 29 → 0 ≤ k' → k' < S 0 0 3 → 0 ≤ i' → i' < S 5 k' 29 → S 5 k (37 + 5 * i) ≠ 0 → S 5 k' (37 + 5 * i') ≠ 0 → S 5 k (33 + 5 * i) = S 5 k' (33 + 5 * i') → k = k' ∧ i = i')
/-- a rule of spaces says one at least -/
def okY1 (S : am_G) : Prop := ∀ k q, 0 ≤ k → k < S 0 0 2 → 0 ≤ q → q < S 6 k 1 → S 6 k (2 + 5 * q) = 1 → 1 ≤ S 6 k (3 + 5 * q)
theorem leS_1 {S : am_G} {p mi : Int} (hY : okY S) (h1 : okY1 S) : 1 ≤ leS S p mi := by
  unfold leS sdd
  rcases lrl_bd (tg := tgs S p mi 0) (fc := fcs S p mi 0 99) (mi := mi) (w := 1) hY with e | ⟨e1, e2, e3⟩
  · rw [if_pos e]
    decide
  · have q := h1 _ _ e1.1 e1.2 e2.1 e2.2 e3
    rw [if_neg (by omega)]
    have e : ∀ z : Int, 2 + 5 * z + 1 = 3 + 5 * z := fun z => by omega
    rw [e]
    exact q
/-- whether the turn begins a job -/
def stA (S : am_G) (k : Int) : Int := if S 5 k 28 = 0 ∧ S 5 k 29 ≠ 0 ∧ bhd S k 0 < 0 then 1 else 0
/-- a turn: the state then, the slug -/
def turR (S : am_G) (k : Int) (S' : am_G) (a : Int) : Prop := ((S 5 k 28 ≠ 0 ∨ S 5 k 29 = 0) ∧ S' = S ∧ a = -1) ∨ (S 5 k 28 = 0 ∧ S 5 k 29 ≠ 0 ∧ bhd S k 0 < 0 ∧ ((tbS S (S 5 k 33) (S 0 0 0)) 0).1 = -1 ∧ S' = spk S k ∧ a = -1) ∨ (S 5 k 28 = 0 ∧ S 5 k 29 ≠ 0 ∧ bhd S k 0 < 0 ∧ ((tbS S (S 5 k 33) (S 0 0 0)) 0).1 ≠ -1 ∧ runR (stL S (S 5 k 33) (tbS S (S 5 k 33) (S 0 0 0))) k S' a) ∨ (S 5 k 28 = 0 ∧ S 5 k 29 ≠ 0 ∧ 0 ≤ bhd S k 0 ∧ runR S k S' a)
/-- the paper's capacity is left when cells of the night change -/
theorem Ow_capB {h h' : am_H} {L L' : am_Lb} {x P N : Nat} (y : rPap h L x P) (hxN : x ≠ N) (a : fx (fun q => (L q).1 = N) h h') : capB h' P = capB h P := by
  obtain ⟨y1, y2, y3, y4, y5, y6, y7⟩ := y
  have b1 := (a.2.2.2 P y1.2.1).2.2 (fun z => by have z' : (L P).1 = N := z; rw [y1.2.2.2] at z'; exact hxN z')
  have b2 := (a.2.2.2 _ y5.2.1).2.2 (fun z => by have z' : (L (am_fr h 15 P)).1 = N := z; rw [y5.2.2.2] at z'; exact hxN z')
  unfold capB
  rw [b1.2.1 15, b2.2.1 185, (a.2.2.2 _ y6.2.1).2.1]
theorem slN_b {v e : Int → Int} {T : Int → Int × Int × Int} (ho : okP v) (hn : okN v) {n1 : Int} (he : ∀ l, 0 ≤ l → e l = nx T (l.toNat + 1) 0 - 1) (hE : ∀ l, 0 ≤ l → l < n1 → 0 ≤ nx T l.toNat 0 ∧ nx T l.toNat 0 < nx T (l.toNat + 1) 0 ∧ nx T (l.toNat + 1) 0 ≤ v 1) : ∀ l, 0 ≤ l → l ≤ n1 → slN v e l ≤ 13 * nx T l.toNat 0 + l := by
  have eb : ∀ l, 0 ≤ l → bgE e l = nx T l.toNat 0 := fun l l1 => by
    unfold bgE
    by_cases c : l = 0
    · rw [if_pos c, c]
      rfl
    · rw [if_neg c, he (l - 1) (by omega)]
      have e1 : (l - 1).toNat + 1 = l.toNat := by omega
      rw [e1]
      omega
  have gen : ∀ n : Nat, (n : Int) ≤ n1 → slN v e (n : Int) ≤ 13 * nx T n 0 + n := by
    intro n
    induction n with
    | zero => intro _; exact Int.le_refl _
    | succ n ih =>
      intro h
      have i := ih (by omega)
      have q := hE (n : Int) (by omega) (by omega)
      have e1 : ((n : Int)).toNat = n := by omega
      rw [e1] at q
      have s : slN v e ((n : Int) + 1) = slN v e (n : Int) + ((say v (bgE e (n : Int)) (e (n : Int))).length : Int) := sg_s (by omega)
      have e2 : ((n + 1 : Nat) : Int) = (n : Int) + 1 := by omega
      rw [e2, s, eb _ (by omega), he _ (by omega), e1]
      have l := say_13 ho hn (a := nx T n 0) (z := nx T (n + 1) 0 - 1) q.1 (by omega) (by omega)
      omega
  intro l l1 l2
  have e1 : ((l.toNat : Nat) : Int) = l := by omega
  have g := gen l.toNat (by omega)
  rw [e1] at g
  exact g
section
variable {K : am_K} {h : am_H}
/-- the paper for a part: nothing but the paper is changed -/
theorem x_paperM {L : am_Lb} {x P N : Nat} {S : am_G} {B : Int} {p mi : Int} {D : Nat} (hD : 78 ≤ D) (t : Nt h L x P N S B) (hC : okC S) (hF : okF S) (hY : okY S) (ip : isP S p) (H : ∀ h', Nt h' L x P N S B → fx (fun q => q = P) h h' → am_sz h' ≤ am_sz h + 6 → am_us h' ≤ am_us h + 33 → (∀ f, f ≠ 6 → f ≠ 7 → am_fr h' f P = am_fr h f P) → xPp h' P (S 3 p) (S 1 (S 2 0 (p / 5))) (meS S p mi) (leS S p mi) (moS S p mi) (coS S p mi) → xScr h' P → K (.inl (some (.inr (.inl (P))))) h') : am_ev am_prog D 207 [.inr (.inl N), .inr (.inl (am_ar h (am_fr h 20 N) p)), .inl mi] h K := by
  obtain ⟨y1, y2, y3⟩ := Y_fc t
  have pb := isP_bd hC hF ip
  have q := (t.2.2.2.1.2.2.1.2.2 p pb.1.1 pb.1.2).2 ip
  have x1 := t.2.2.2.1.1
  have x2 := t.2.2.2.1.2.1
  have xw := x2.2.2 (S 2 0 (p / 5)) pb.2.2.1.1 pb.2.2.1.2
  refine x_paper hD hY pb.2.2.1 x1.1.1 x1.1.2.1 rfl x1.2.1 rfl ⟨t.2.2.1.1.1, t.2.2.1.1.2.1⟩ ⟨x2.1.1, x2.2.1, x2.1.2.1⟩ xw.2 y1 y2 (fun k k1 k2 => (y3 k k1 k2).1) (PT_x q) (fun h' a z u xp hi hr h67 => ?_)
  have t' := Nt_sc t a (fun q e => Or.inl e) hr
  refine H h' t' a z u hr xp (sc_P t'.2.2.1 t.2.2.2.2.1 (f := (S 2 0 (p / 5))) ?_)
  rw [h67.2]
  have ne : am_ar h (am_fr h 19 N) (S 2 0 (p / 5)) ≠ P := nd_one_ne xw.1 t.2.2.1.1 (fun e => t.2.2.2.2.1 e.symm)
  exact (nd_fx a (leL_refl (L := L)) xw.1 ne).1
/-- cells of the night that are left when the paper changes -/
theorem Px_same {L : am_Lb} {x N : Nat} {h' : am_H} (hxN : x ≠ N) (a : fx (fun q => (L q).1 = x ∧ (L q).2.1 = 1) h h') {q : Nat} (hq : q ≤ am_sz h) (qN : (L q).1 = N) : am_ty h' q = am_ty h q ∧ am_ln h' q = am_ln h q ∧ (∀ f, am_fi h' f q = am_fi h f q) ∧ (∀ f, am_fr h' f q = am_fr h f q) ∧ am_ai h' q = am_ai h q ∧ am_ar h' q = am_ar h q := by
  have b := a.2.2.2 q hq
  have c := b.2.2 (fun z => hxN (z.1.symm.trans qN))
  exact ⟨b.1, b.2.1, c.1, c.2.1, c.2.2.1, c.2.2.2⟩
/-- the best lines are there: the part is set, the machine runs on -/
theorem x_begin {L : am_Lb} {x P N : Nat} {S : am_G} {B : Int} {k : Int} {d : Nat} {r1 : Nat} {o5 o6 o7 o8 : Option am_V} (hd : 40 ≤ d + 12) (hB2 : B + 2 ≤ 1000000) (t : Nt h L x P N S B) (hx : am_ty h x = 1) {Rn : Nat} (hN : am_fr h 1 x = Rn) (hz : x ≤ am_sz h) (hl : L x = (x, 0, 0, 0)) (hB : B ≤ 1000000) (hC : okC S) (hF : okF S) (hG : okG S) (hM : okM S) (hA : okA S) (hY : okY S) (hY1 : okY1 S) (hW : okWs S) (hJ : okJ S) (hk : 0 ≤ k ∧ k < S 0 0 3) (hr : ∀ i, 0 ≤ i → i < S 0 0 7 → S 10 0 (5 * i) < S 0 0 0) (hn : 0 < S 5 k 29) (w37 : S 5 k 37 ≠ 0) (s3 : S 3 (S 5 k 33) 3 = 0) (l0 : (S 5 k 34) = 0) (nn : ((tbS S (S 5 k 33) (S 0 0 0)) 0).1 ≠ -1) (ra : iA h L r1 ((tbS S (S 5 k 33) (S 0 0 0)) 0).2.1 (fun l => nx (tbS S (S 5 k 33) (S 0 0 0)) (l.toNat + 1) 0 - 1)) (H : ∀ S' a h' L', runR (stL S (S 5 k 33) (tbS S (S 5 k 33) (S 0 0 0))) k S' a → Nt h' L' x P N S' (B + 2) → Out h L x N h' L' (am_sz h' - am_sz h) (am_us h' - am_us h) → G10 h L N h' → ((am_sz h' : Int) + capG h N + capB h P ≤ am_sz h + capG h' N + capB h' P + (S' 0 0 4 - S 0 0 4) + 90) ∧ ((am_us h' : Int) + 5 * capG h N + 2 * capB h P ≤ am_us h + 5 * capG h' N + 2 * capB h' P + 11 * (S' 0 0 4 - S 0 0 4) + 1000) → K (.inl (some (.inl (a)))) h') : am_W m_X3_turn (am_ev am_prog (d + 12)) K 36 [some (.inr (.inl (N))), some (.inl (k)), some (.inr (.inl ((am_ar h (am_fr h 23 N) k)))), some (.inr (.inl ((am_ar h (am_fr h 194 (am_fr h 147 (am_ar h (am_fr h 23 N) k))) 0)))), some (.inr (.inl ((am_ar h (am_fr h 20 N) (S 5 k 33))))), o5, o6, o7, o8] [.inr (.inl r1)] h := by
  obtain ⟨x1, x2, x3, x4, x5, x6, x7, x8, x9, x10⟩ := t.2.2.2.1
  obtain ⟨k1, k2, k3, k4⟩ := P_fc t
  have c3 := hC.2.2.1
  have mk := x5.2.2 k hk.1 hk.2
  have mo' := hM k hk.1 (by omega)
  have j0 := mk.2.2.2.2.2.2.2.2.2.2.1 0 (by omega) hn
  have mj := mo'.2.2.2.2.2.2.2 0 (by omega) hn
  have ip : isP S (S 5 k 33) := mj.1
  have pb := isP_bd hC hF ip
  have pt := (k4 (S 5 k 33) pb.1.1 pb.1.2).2 ip
  have ap := hA (S 5 k 33) ip
  have p1 := ap.1.1
  have hxN := t.2.2.2.2.1
  have hx0 := t.2.2.2.2.2.1
  have hN0 := t.2.2.2.2.2.2
  have okw := hW _ pb.2.2.1.1 pb.2.2.1.2
  have tl := tells_bd (p := (S 5 k 33)) (mi := S 0 0 0) hY
  have le1 := leS_1 (p := (S 5 k 33)) (mi := S 0 0 0) hY hY1
  have nl := nx_ln ap.1 okw ap.2.1 tl.1 tl.2.1 le1 tl.2.2.2.1 (mo := moS S (S 5 k 33) (S 0 0 0)) nn
  have nl1 : 1 ≤ ((tbS S (S 5 k 33) (S 0 0 0)) 0).2.1 ∧ ((tbS S (S 5 k 33) (S 0 0 0)) 0).2.1 ≤ S 3 (S 5 k 33) 1 := nl.1
  have nl2 : ∀ l, 0 ≤ l → l < ((tbS S (S 5 k 33) (S 0 0 0)) 0).2.1 → (0 ≤ nx (tbS S (S 5 k 33) (S 0 0 0)) l.toNat 0 ∧ nx (tbS S (S 5 k 33) (S 0 0 0)) l.toNat 0 < nx (tbS S (S 5 k 33) (S 0 0 0)) (l.toNat + 1) 0 ∧ nx (tbS S (S 5 k 33) (S 0 0 0)) (l.toNat + 1) 0 ≤ S 3 (S 5 k 33) 1) ∧ ((say (S 3 (S 5 k 33)) (nx (tbS S (S 5 k 33) (S 0 0 0)) l.toNat 0) (nx (tbS S (S 5 k 33) (S 0 0 0)) (l.toNat + 1) 0 - 1)).length : Int) ≤ 400 := nl.2.1
  have nl3 : nx (tbS S (S 5 k 33) (S 0 0 0)) ((tbS S (S 5 k 33) (S 0 0 0)) 0).2.1.toNat 0 = S 3 (S 5 k 33) 1 := nl.2.2
  clear nl
  generalize hT : (tbS S (S 5 k 33) (S 0 0 0)) = T at *
  have eb : ∀ l, 0 ≤ l → bgE (fun l => nx T (l.toNat + 1) 0 - 1) l = nx T l.toNat 0 := fun l l1 => by
    unfold bgE
    by_cases c : l = 0
    · rw [if_pos c, c]
      rfl
    · rw [if_neg c]
      have e1 : (l - 1).toNat + 1 = l.toNat := by omega
      show nx T ((l - 1).toNat + 1) 0 - 1 + 1 = _
      rw [e1]
      omega
  have hE : ∀ l, 0 ≤ l → l < (T 0).2.1 → (0 ≤ bgE (fun l => nx T (l.toNat + 1) 0 - 1) l ∧ bgE (fun l => nx T (l.toNat + 1) 0 - 1) l ≤ nx T (l.toNat + 1) 0 - 1 ∧ nx T (l.toNat + 1) 0 - 1 < S 3 (S 5 k 33) 1) ∧ ((say (S 3 (S 5 k 33)) (bgE (fun l => nx T (l.toNat + 1) 0 - 1) l) (nx T (l.toNat + 1) 0 - 1)).length : Int) ≤ 420 := fun l l1 l2 => by
    have q := nl2 l l1 l2
    rw [eb l l1]
    exact ⟨⟨q.1.1, by omega, by omega⟩, by omega⟩
  have sl := slN_b (T := T) ap.1 ap.2.1 (e := fun l => nx T (l.toNat + 1) 0 - 1) (n1 := (T 0).2.1) (fun l _ => rfl) (fun l l1 l2 => (nl2 l l1 l2).1) (T 0).2.1 (by omega) (Int.le_refl _)
  rw [nl3] at sl
  refine v_X3_turn_36 ⟨fun _ => ⟨x1.1.1, pt.1.1, ?_⟩, fun w => absurd w ra.2.2.1⟩
  rw [x1.2.1]
  refine x_sets (by omega) t.1 hx0 hN0 hxN t.2.2.1 ap.1 pt.1 pt.2.2.2.2.2.2.1 ra (by omega) hE (fun hk' Lk i => am_an (v_X3_turn_48 ?_))
  have ii := i
  obtain ⟨i1, i2, i3, i4, i5, i6, i7, i8, i9, i10, i11, i12, i13⟩ := i
  obtain ⟨y1, y2, y3, y4, y5, y6, y7⟩ := t.2.2.1
  have lbX : ∀ q, (q = (am_ar h (am_fr h 20 N) (S 5 k 33)) ∨ q = am_fr h 15 P ∨ q = am_fr h 185 (am_fr h 15 P)) → (L q).1 ≠ 0 ∧ ((L q).1 = N → (L q).2.1 = 3) := fun q z => by
    rcases z with z | z | z
    · rw [z, pt.1.2.2.2]
      exact ⟨hN0, fun _ => rfl⟩
    · rw [z, y5.2.2.2]
      exact ⟨hx0, fun w => absurd w hxN⟩
    · rw [z, y6.2.2.2]
      exact ⟨hx0, fun w => absurd w hxN⟩
  have rk := iA_fx i1 i2 (fun q hq z => (lbX q z).1) ra
  have sT := pt.1.2.1
  have sJ := j0.1.2.1
  have zk := i1.1
  have tT : am_ty hk' (am_ar h (am_fr h 20 N) (S 5 k 33)) = 9 := (i1.2.2.2 _ sT).1.trans pt.1.1
  rw [rk.2.2.2.2.1]
  refine ⟨⟨Or.inl rk.1, by omega⟩, ⟨Nat.le_trans sT zk, tT⟩, ?_⟩
  -- the places
  have main : ∀ j, 0 ≤ j → j ≤ (T 0).2.1 → ∀ hj, fx (fun q => q = (am_ar h (am_fr h 20 N) (S 5 k 33))) hk' hj → am_sz hj = am_sz hk' + 1 → am_us hj = am_us hk' + (T 0).2.1.toNat → am_fr hj 118 (am_ar h (am_fr h 20 N) (S 5 k 33)) = am_sz hk' + 1 → (∀ f, f ≠ 118 → am_fr hj f (am_ar h (am_fr h 20 N) (S 5 k 33)) = am_fr hk' f (am_ar h (am_fr h 20 N) (S 5 k 33))) → (∀ f, am_fi hj f (am_ar h (am_fr h 20 N) (S 5 k 33)) = am_fi hk' f (am_ar h (am_fr h 20 N) (S 5 k 33))) → am_ty hj (am_sz hk' + 1) = 101 → am_ln hj (am_sz hk' + 1) = (T 0).2.1 → (∀ q, 0 ≤ q → q < j → am_ai hj (am_sz hk' + 1) q = -1) → am_W m_X3_turn (am_ev am_prog (d + 12)) K 55 [some (.inr (.inl (N))), some (.inl (k)), some (.inr (.inl ((am_ar h (am_fr h 23 N) k)))), some (.inr (.inl ((am_ar h (am_fr h 194 (am_fr h 147 (am_ar h (am_fr h 23 N) k))) 0)))), some (.inr (.inl ((am_ar h (am_fr h 20 N) (S 5 k 33))))), some (.inr (.inl (r1))), some (.inl (j)), o7, o8] [] hj := by
    refine lp_z ?_ ?_
    · intro j j1 j2 hL hj a zz uu f118 fr fi ty ln ai
      have rj := a.2.2.2 r1 rk.2.1
      refine v_X3_turn_55 ?_
      rw [rj.2.1, rk.2.2.2.2.1, f118, ln]
      refine ⟨Or.inl (rj.1.trans rk.1), fun w => absurd w (by omega), fun _ => ⟨⟨(a.2.2.2 _ (Nat.le_trans sT zk)).1.trans tT, ty, by omega⟩, by omega, ?_⟩⟩
      refine hL _ (fx_sai a (Or.inl (by omega))) zz uu f118 fr fi ty ln (fun q q1 q2 => ?_)
      rw [x_aise]
      by_cases eq : q = j
      · rw [eq, am_uz_eq]
      · rw [am_uz_ne eq]
        exact ai q q1 (by omega)
    · intro hj a zz uu f118 fr fi ty ln ai
      have rj := a.2.2.2 r1 rk.2.1
      have hu : ∀ k' i, 0 ≤ k' → k' < S 0 0 3 → 0 ≤ i → i < S 5 k' 29 → S 5 k' (37 + 5 * i) ≠ 0 → S 5 k' (33 + 5 * i) = (S 5 k 33) → k' = k ∧ i = 0 := fun k' i g1 g2 g3 g4 g5 g6 => hJ.2 k' i k 0 g1 g2 g3 g4 hk.1 hk.2 (by omega) hn g5 w37 g6
      obtain ⟨t3, le3, f3o, n3, r3⟩ := Nt_set (J := (am_ar h (am_fr h 194 (am_fr h 147 (am_ar h (am_fr h 23 N) k))) 0)) (h2 := am_sfi hj 154 (am_ar h (am_fr h 194 (am_fr h 147 (am_ar h (am_fr h 23 N) k))) 0) (T 0).2.1) (e := fun l => nx T (l.toNat + 1) 0 - 1) (n1 := (T 0).2.1) t hC hF ip s3 hk hn rfl w37 rfl hu ⟨rfl, by omega⟩ (fun _ _ _ => rfl) (fun l l1 l2 => by have q := (hE l l1 l2).1; exact ⟨q.1, by show 0 ≤ nx T (l.toNat + 1) 0 - 1; omega⟩) ra ii a zz f118 fr fi ty ln ai rfl
      have f3 : fx (fun q => (L q).1 = N ∨ ((L q).1 = x ∧ (L q).2.1 = 1)) h (am_sfi hj 154 (am_ar h (am_fr h 194 (am_fr h 147 (am_ar h (am_fr h 23 N) k))) 0) (T 0).2.1) := fx_sub f3o (fun q _ z => z.elim (fun w => Or.inl w.1) Or.inr)
      have g3' : G10 h L N (am_sfi hj 154 (am_ar h (am_fr h 194 (am_fr h 147 (am_ar h (am_fr h 23 N) k))) 0) (T 0).2.1) := ⟨r3, fun q hq qN q10 => ((f3o.2.2.2 q hq).2.2 (fun z => z.elim (fun w => w.2 q10) (fun w => hxN (w.1.symm.trans qN)))).2.2.1⟩
      obtain ⟨v1, v2, v3, v4, v5, v6⟩ := stL_v (S := S) (p := (S 5 k 33)) (T := T) (by omega)
      have s5 : stL S (S 5 k 33) T 5 = S 5 := v1 5 (by decide)
      have s0 : stL S (S 5 k 33) T 0 = S 0 := v1 0 (by decide)
      have s2 : stL S (S 5 k 33) T 2 = S 2 := v1 2 (by decide)
      have s4 : stL S (S 5 k 33) T 4 = S 4 := v1 4 (by decide)
      generalize hL3 : lbA Lk hk' (am_sz hk' + 1) (N, 3, 2, (S 5 k 33)) = L3 at *
      -- cells of machines are left
      have J5 : ∀ q, q ≤ am_sz h → (L q).1 = N → (L q).2.1 ≠ 3 → (∀ f, am_fi hj f q = am_fi h f q) ∧ (∀ f, am_fr hj f q = am_fr h f q) ∧ am_ai hj q = am_ai h q ∧ am_ar hj q = am_ar h q := fun q hq qN q3 => by
        have n1 : ¬ (q = (am_ar h (am_fr h 20 N) (S 5 k 33)) ∨ q = am_fr h 15 P ∨ q = am_fr h 185 (am_fr h 15 P)) := fun z => q3 ((lbX q z).2 qN)
        have b1 := (i1.2.2.2 q hq).2.2 n1
        have b2 := (a.2.2.2 q (Nat.le_trans hq zk)).2.2 (fun z => n1 (Or.inl z))
        exact ⟨fun f => (b2.1 f).trans (b1.1 f), fun f => (b2.2.1 f).trans (b1.2.1 f), b2.2.2.1.trans b1.2.2.1, b2.2.2.2.trans b1.2.2.2⟩
      have bN := J5 N x1.1.2.1 (by rw [x1.1.2.2.2]) (by rw [x1.1.2.2.2]; show (0 : Nat) ≠ 3; decide)
      have bJ := J5 _ sJ (by rw [j0.1.2.2.2]) (by rw [j0.1.2.2.2]; show (5 : Nat) ≠ 3; decide)
      have bM := J5 _ x5.1.2.1 (by rw [x5.1.2.2.2]) (by rw [x5.1.2.2.2]; show (5 : Nat) ≠ 3; decide)
      have bK := J5 _ mk.1.2.1 (by rw [mk.1.2.2.2]) (by rw [mk.1.2.2.2]; show (5 : Nat) ≠ 3; decide)
      have rl := mk.2.2.2.2.2.2.2.2.2.1
      have pos : 0 < am_ln h (am_fr h 194 (am_fr h 147 (am_ar h (am_fr h 23 N) k))) := by
        have := rl.1.1.2.2.1
        rw [rl.2.2.2.2.1] at this
        omega
      have bL := J5 _ rl.1.1.2.2.2.2.1 (by rw [rl.2.2.1]) (by rw [rl.2.2.1]; show (5 : Nat) ≠ 3; decide)
      have bA := J5 _ rl.1.1.2.2.2.2.2 (by rw [rl.2.2.2.1 pos]) (by rw [rl.2.2.2.1 pos]; show (5 : Nat) ≠ 3; decide)
      have bG := J5 _ x6.1.1.1.2.2.2.2.1 (by rw [x6.1.2.2.1]) (by rw [x6.1.2.2.1]; show (4 : Nat) ≠ 3; decide)
      have eP : am_ar (am_sfi hj 154 (am_ar h (am_fr h 194 (am_fr h 147 (am_ar h (am_fr h 23 N) k))) 0) (T 0).2.1) (am_fr (am_sfi hj 154 (am_ar h (am_fr h 194 (am_fr h 147 (am_ar h (am_fr h 23 N) k))) 0) (T 0).2.1) 20 N) (S 5 k 33) = (am_ar h (am_fr h 20 N) (S 5 k 33)) := by
        rw [r3 20]
        have n1 : ¬ (am_fr h 20 N = (am_ar h (am_fr h 20 N) (S 5 k 33)) ∨ am_fr h 20 N = am_fr h 15 P ∨ am_fr h 20 N = am_fr h 185 (am_fr h 15 P)) := fun z => by
          rcases z with z | z | z
          · exact nd_kne x3.1 pt.1 (by decide) z
          · exact nd_one_ne x3.1 y5 (fun w => hxN w.symm) z
          · exact nd_one_ne x3.1 y6 (fun w => hxN w.symm) z
        have b1 := (i1.2.2.2 _ x3.1.2.1).2.2 n1
        have b2 := (a.2.2.2 _ (Nat.le_trans x3.1.2.1 zk)).2.2 (fun z => n1 (Or.inl z))
        show am_ar hj (am_fr h 20 N) (S 5 k 33) = _
        rw [b2.2.2.2, b1.2.2.2]
      have eM : am_ar (am_sfi hj 154 (am_ar h (am_fr h 194 (am_fr h 147 (am_ar h (am_fr h 23 N) k))) 0) (T 0).2.1) (am_fr (am_sfi hj 154 (am_ar h (am_fr h 194 (am_fr h 147 (am_ar h (am_fr h 23 N) k))) 0) (T 0).2.1) 23 N) k = (am_ar h (am_fr h 23 N) k) := by
        rw [r3 23]
        show am_ar hj (am_fr h 23 N) k = _
        rw [bM.2.2.2]
      have eJ : am_ar (am_sfi hj 154 (am_ar h (am_fr h 194 (am_fr h 147 (am_ar h (am_fr h 23 N) k))) 0) (T 0).2.1) (am_fr (am_sfi hj 154 (am_ar h (am_fr h 194 (am_fr h 147 (am_ar h (am_fr h 23 N) k))) 0) (T 0).2.1) 194 (am_fr (am_sfi hj 154 (am_ar h (am_fr h 194 (am_fr h 147 (am_ar h (am_fr h 23 N) k))) 0) (T 0).2.1) 147 (am_ar (am_sfi hj 154 (am_ar h (am_fr h 194 (am_fr h 147 (am_ar h (am_fr h 23 N) k))) 0) (T 0).2.1) (am_fr (am_sfi hj 154 (am_ar h (am_fr h 194 (am_fr h 147 (am_ar h (am_fr h 23 N) k))) 0) (T 0).2.1) 23 N) k))) 0 = (am_ar h (am_fr h 194 (am_fr h 147 (am_ar h (am_fr h 23 N) k))) 0) := by
        rw [eM]
        show am_ar hj (am_fr hj 194 (am_fr hj 147 (am_ar h (am_fr h 23 N) k))) 0 = _
        rw [bK.2.1 147, bL.2.1 194, bA.2.2.2]
      have tJ : am_ty hj (am_ar h (am_fr h 194 (am_fr h 147 (am_ar h (am_fr h 23 N) k))) 0) = 22 := (a.2.2.2 _ (Nat.le_trans sJ zk)).1.trans ((i1.2.2.2 _ sJ).1.trans j0.1.1)
      have tN : am_ty hj N = 3 := (a.2.2.2 _ (Nat.le_trans x1.1.2.1 zk)).1.trans ((i1.2.2.2 _ x1.1.2.1).1.trans x1.1.1)
      have f153 : am_fi hj 153 (am_ar h (am_fr h 194 (am_fr h 147 (am_ar h (am_fr h 23 N) k))) 0) = (S 5 k 34) := (bJ.1 153).trans j0.2.2.2.1
      have t3G := G_fc t3
      rw [r3 25] at t3G
      have g195 : am_fi hj 195 (am_fr h 25 N) = S 0 0 4 := by
        have q := t3G.2.1
        rw [x_fif (by decide), s0] at q
        exact q
      have f25 : am_fr hj 25 N = am_fr h 25 N := bN.2.1 25
      have p3 := ((t3.2.2.2.1.2.2.1).2.2 (S 5 k 33) pb.1.1 pb.1.2).2 (by unfold isP; rw [s0, s2]; exact ip)
      have hPA : am_fr h 20 N = am_fr (am_sfi hj 154 (am_ar h (am_fr h 194 (am_fr h 147 (am_ar h (am_fr h 23 N) k))) 0) (T 0).2.1) 20 N := (r3 20).symm
      rw [eP] at p3
      obtain ⟨z1, z2, z3, z4, z5⟩ := p3.2.2.2.2.2.2.2.2 (by rw [v3]; decide)
      have z24 : am_ln hj (am_fr hj 117 (am_ar h (am_fr h 20 N) (S 5 k 33))) = (T 0).2.1 := by
        have q := z2.2.2.2.1
        rw [v4] at q
        exact q
      have z21 : am_ty hj (am_fr hj 117 (am_ar h (am_fr h 20 N) (S 5 k 33))) = 116 := z2.1
      have capb : capB (am_sfi hj 154 (am_ar h (am_fr h 194 (am_fr h 147 (am_ar h (am_fr h 23 N) k))) 0) (T 0).2.1) P = am_ln hk' (am_fr hk' 185 (am_fr h 15 P)) := by
        have w := i4
        obtain ⟨w1, w2, w3, w4, w5, w6, w7⟩ := w
        rw [i6 15] at w5 w6
        have nP : P ≠ (am_ar h (am_fr h 20 N) (S 5 k 33)) := nd_one_ne y1 pt.1 hxN
        have nB : am_fr h 15 P ≠ (am_ar h (am_fr h 20 N) (S 5 k 33)) := nd_one_ne y5 pt.1 hxN
        have b1 := (a.2.2.2 P (Nat.le_trans y1.2.1 zk)).2.2 nP
        have b2 := (a.2.2.2 _ (Nat.le_trans y5.2.1 zk)).2.2 nB
        unfold capB
        show am_ln hj (am_fr hj 185 (am_fr hj 15 P)) = _
        rw [b1.2.1 15, i6 15, b2.2.1 185, (a.2.2.2 _ w6.2.1).2.1]
      have capg : capG (am_sfi hj 154 (am_ar h (am_fr h 194 (am_fr h 147 (am_ar h (am_fr h 23 N) k))) 0) (T 0).2.1) N = capG h N := by
        unfold capG
        show am_ln hj (am_fr hj 194 (am_fr hj 25 N)) = _
        rw [f25, bG.2.1 194, (a.2.2.2 _ (Nat.le_trans x6.1.1.1.2.2.2.2.2 zk)).2.1, (i1.2.2.2 _ x6.1.1.1.2.2.2.2.2).2.1]
      have hl3 : L3 x = (x, 0, 0, 0) := (le3 x hz).trans hl
      have nX : ¬ ((L x).1 = N ∨ ((L x).1 = x ∧ (L x).2.1 = 1)) := fun z => by
        rw [hl] at z
        rcases z with z | z
        · exact hxN z
        · exact absurd z.2 (by simp)
      have bx := f3.2.2.2 x hz
      have hx3 : am_ty (am_sfi hj 154 (am_ar h (am_fr h 194 (am_fr h 147 (am_ar h (am_fr h 23 N) k))) 0) (T 0).2.1) x = 1 := bx.1.trans hx
      have hN3 : am_fr (am_sfi hj 154 (am_ar h (am_fr h 194 (am_fr h 147 (am_ar h (am_fr h 23 N) k))) 0) (T 0).2.1) 1 x = Rn := ((bx.2.2 nX).2.1 1).trans hN
      have C3 : okC (stL S (S 5 k 33) T) := by unfold okC; rw [s0]; exact hC
      have F3 : okF (stL S (S 5 k 33) T) := by unfold okF; rw [s0, s2]; exact hF
      have G3 : okG (stL S (S 5 k 33) T) := by unfold okG; rw [s0, s4]; exact hG
      have M3 : okM (stL S (S 5 k 33) T) := by
        unfold okM isP
        rw [s0, s2, s5]
        exact hM
      have ebg : ∀ l, 0 ≤ l → l < (T 0).2.1 → bg (stL S (S 5 k 33) T 3 (S 5 k 33)) l = nx T l.toNat 0 := fun l l1 l2 => by
        unfold bg
        by_cases c0 : l = 0
        · rw [if_pos c0, c0]
          rfl
        · rw [if_neg c0]
          have q := (v5 (l - 1) (by omega) (by omega)).1
          have e1 : (5 + (l - 1) : Int) = 4 + l := by omega
          have e2 : (l - 1).toNat + 1 = l.toNat := by omega
          rw [e1, e2] at q
          rw [q]
          omega
      have O3 : okPl (stL S (S 5 k 33) T) (S 5 k 33) := by
        refine ⟨by unfold isP; rw [s0, s2]; exact ip, pb.1, by rw [v3]; decide, by rw [v4]; omega, fun l l1 l2 => ?_⟩
        rw [v4] at l2
        have q := nl2 l l1 l2
        rw [ebg l l1 l2, (v5 l l1 l2).1]
        exact ⟨q.1.1, by omega⟩
      have es33 : stL S (S 5 k 33) T 5 k 33 = (S 5 k 33) := by rw [s5]
      have es34 : stL S (S 5 k 33) T 5 k 34 = 0 := by rw [s5]; exact l0
      have len : ((lnS (stL S (S 5 k 33) T 3 (S 5 k 33)) 0).length : Int) ≤ 420 := by
        have q := nl2 0 (by omega) (by omega)
        unfold lnS
        rw [ebg 0 (by omega) (by omega), (v5 0 (by omega) (by omega)).1, say_c (fun o ho => v6 o (Or.inr ho)) (v6 1 (by omega)) q.1.1 (by omega)]
        omega
      have rr3 : ∀ i, 0 ≤ i → i < stL S (S 5 k 33) T 0 0 7 → stL S (S 5 k 33) T 10 0 (5 * i) < stL S (S 5 k 33) T 0 0 0 := by
        rw [s0, v1 10 (by decide)]
        exact hr
      have s04 : stL S (S 5 k 33) T 0 0 4 = S 0 0 4 := by rw [s0]
      have go := fun o8 => x_run (S := stL S (S 5 k 33) T) (L := L3) (k := k) (tx := am_ar (am_sfi hj 154 (am_ar h (am_fr h 194 (am_fr h 147 (am_ar h (am_fr h 23 N) k))) 0) (T 0).2.1) (am_fr (am_sfi hj 154 (am_ar h (am_fr h 194 (am_fr h 147 (am_ar h (am_fr h 23 N) k))) 0) (T 0).2.1) 117 (am_ar h (am_fr h 20 N) (S 5 k 33))) 0) (d := d) (o8 := o8) (by omega) hB2 t3 hx3 hN3 (Nat.le_trans hz f3.1) hl3 hB C3 F3 G3 M3 (by rw [s0]; exact hk) (by rw [s5]; exact hn) (by rw [es33]; exact O3) (by rw [es33, es34, v4]; omega) (by rw [es33, es34, (v5 0 (by omega) (by omega)).2, s04]; have := hG.1; omega) (by rw [es33, es34]; exact len) rr3 (by rw [es33, es34]; exact z2.2.2.2.2 0 (by omega) (by rw [v4]; omega)) (fun S' a' h' L' rr t' ow c' => H S' a' h' L' rr t' (Out_le (Out_tr (d1 := am_sz hj - am_sz h) (u1 := am_us hj - am_us h) (⟨f3, le3, ⟨by show am_sz hj ≤ _; omega, by show am_us hj ≤ _; have := i1.2.1; omega⟩, n3⟩ : Out h L x N (am_sfi hj 154 (am_ar h (am_fr h 194 (am_fr h 147 (am_ar h (am_fr h 23 N) k))) 0) (T 0).2.1) L3 _ _) (Ow_Out (dz := am_sz h' - am_sz hj) (du := am_us h' - am_us hj) ow (by have q := ow.1.1; have q2 : am_sz (am_sfi hj 154 (am_ar h (am_fr h 194 (am_fr h 147 (am_ar h (am_fr h 23 N) k))) 0) (T 0).2.1) = am_sz hj := rfl; omega) (by have q := ow.1.2.1; have q2 : am_us (am_sfi hj 154 (am_ar h (am_fr h 194 (am_fr h 147 (am_ar h (am_fr h 23 N) k))) 0) (T 0).2.1) = am_us hj := rfl; omega))) (by have q := ow.1.1; have q2 : am_sz (am_sfi hj 154 (am_ar h (am_fr h 194 (am_fr h 147 (am_ar h (am_fr h 23 N) k))) 0) (T 0).2.1) = am_sz hj := rfl; omega) (by have q := ow.1.2.1; have q2 : am_us (am_sfi hj 154 (am_ar h (am_fr h 194 (am_fr h 147 (am_ar h (am_fr h 23 N) k))) 0) (T 0).2.1) = am_us hj := rfl; have := i1.2.1; omega)) (G10_tr g3' le3 f3.1 (G10_w ow)) (by
        have cb := Ow_capB (L' := L') t3.2.2.1 hxN (fx_sub ow.1 (fun _ _ z => z.1))
        have ch : capB h P = am_ln h (am_fr h 185 (am_fr h 15 P)) := rfl
        have q2 : am_sz (am_sfi hj 154 (am_ar h (am_fr h 194 (am_fr h 147 (am_ar h (am_fr h 23 N) k))) 0) (T 0).2.1) = am_sz hj := rfl
        have q3 : am_us (am_sfi hj 154 (am_ar h (am_fr h 194 (am_fr h 147 (am_ar h (am_fr h 23 N) k))) 0) (T 0).2.1) = am_us hj := rfl
        rw [capg, s04, q2, q3] at c'
        rw [cb, capb, ch]
        exact ⟨by omega, by omega⟩))
      rw [es33] at go
      rw [eJ, eM, eP] at go
      refine v_X3_turn_55 ?_
      rw [rj.2.1, rk.2.2.2.2.1, f153, l0, z24, f25, g195]
      refine ⟨Or.inl (rj.1.trans rk.1), fun _ => ⟨tJ, ⟨(a.2.2.2 _ (Nat.le_trans sT zk)).1.trans tT, z21, by omega, tN⟩, ?_, fun w => ?_, fun w => ?_⟩, fun w => absurd w (by omega)⟩
      · exact t3G.1.1
      · have q := go o8
        rw [s04, am_bf w] at q
        exact q
      · have q := go o8
        rw [s04, am_bt w] at q
        exact q
  have tn : (Int.toNat (T 0).2.1 : Int) = (T 0).2.1 := by omega
  refine main 0 (by omega) (by omega) _ (fx_sfr (fx_new fx_refl) (Or.inr rfl)) rfl rfl x_fre (fun f hf => ?_) (fun f => ?_) (x_tyn0 (h := hk') (t := 101) (n := Int.toNat (T 0).2.1) rfl) ((x_lnn0 (h := hk') (t := 101) (n := Int.toNat (T 0).2.1) rfl).trans tn) (fun q q1 q2 => absurd q2 (by omega))
  · rw [x_frf hf]
    exact x_frn (Nat.le_trans sT zk)
  · exact x_fin (h := hk') (t := 101) (n := Int.toNat (T 0).2.1) (Nat.le_trans sT zk)
theorem x_turn {L : am_Lb} {x P N : Nat} {S : am_G} {B : Int} {k : Int} {D : Nat} (hD : 90 ≤ D) (hB2 : B + 2 ≤ 1000000) (t : Nt h L x P N S B) (hx : am_ty h x = 1) {Rn : Nat} (hN : am_fr h 1 x = Rn) (hz : x ≤ am_sz h) (hl : L x = (x, 0, 0, 0)) (hB : B ≤ 1000000) (hC : okC S) (hF : okF S) (hG : okG S) (hM : okM S) (hA : okA S) (hY : okY S) (hY1 : okY1 S) (hW : okWs S) (hJ : okJ S) (hk : 0 ≤ k ∧ k < S 0 0 3) (hr : ∀ i, 0 ≤ i → i < S 0 0 7 → S 10 0 (5 * i) < S 0 0 0) (H : ∀ S' a h' L', turR S k S' a → Nt h' L' x P N S' (B + 2) → Out h L x N h' L' (am_sz h' - am_sz h) (am_us h' - am_us h) → G10 h L N h' → ((am_sz h' : Int) + capG h N + capB h P ≤ am_sz h + capG h' N + capB h' P + (S' 0 0 4 - S 0 0 4) + 100 * stA S k) ∧ ((am_us h' : Int) + 5 * capG h N + 2 * capB h P ≤ am_us h + 5 * capG h' N + 2 * capB h' P + 11 * (S' 0 0 4 - S 0 0 4) + 1100 * stA S k) → K (.inl (some (.inl (a)))) h') : am_ev am_prog D 302 [.inr (.inl N), .inl k] h K := by
  obtain ⟨x1, x2, x3, x4, x5, x6, x7, x8, x9, x10⟩ := t.2.2.2.1
  obtain ⟨g1, g2, g3, g4⟩ := G_fc t
  obtain ⟨k1, k2, k3, k4⟩ := P_fc t
  have c3 := hC.2.2.1
  have mk := x5.2.2 k hk.1 hk.2
  obtain ⟨m1, m2, m3, m4, m5, m6, m7, m8, m9, rl, m11, m12⟩ := mk
  have mo' := hM k hk.1 (by omega)
  have hxN := t.2.2.2.2.1
  -- nothing is done
  have idle : (S 5 k 28 ≠ 0 ∨ S 5 k 29 = 0) → K (.inl (some (.inl (-1)))) h := fun c => by
    refine H S (-1) h L (Or.inl ⟨c, rfl, rfl⟩) (Nt_B (by omega) t) (Out_fx0 t.1 fx_refl (by omega) (by omega)) ⟨fun _ => rfl, fun _ _ _ _ => rfl⟩ ?_
    have e0 : stA S k = 0 := if_neg (fun z => c.elim (fun w => w z.1) (fun w => z.2.1 w))
    rw [e0]
    exact ⟨by omega, by omega⟩
  obtain ⟨d, rfl⟩ : ∃ d, D = d + 13 := ⟨D - 13, by omega⟩
  refine am_en p_X3_turn rfl rfl ?_
  refine v_X3_turn_0 ?_
  rw [m6, x5.2.1, rl.2.2.2.2.1]
  refine ⟨⟨x1.1.1, x5.1.1, by omega, m1.1⟩, fun c => idle (Or.inl c), fun c => ⟨rl.1.1.1, fun hn0 => ?_, fun c2 => idle (Or.inr c2)⟩⟩
  have b29 := mo'.2.2.2.1
  have hn : 0 < S 5 k 29 := by omega
  have j0 := m11 0 (by omega) hn
  have mj := mo'.2.2.2.2.2.2.2 0 (by omega) hn
  have ip : isP S (S 5 k 33) := mj.1
  have pb := isP_bd hC hF ip
  have pt := (k4 (S 5 k 33) pb.1.1 pb.1.2).2 ip
  have ap := hA (S 5 k 33) ip
  have f151 : am_fi h 151 (am_ar h (am_fr h 194 (am_fr h 147 (am_ar h (am_fr h 23 N) k))) 0) = (S 5 k 33) := j0.2.1
  have f153 : am_fi h 153 (am_ar h (am_fr h 194 (am_fr h 147 (am_ar h (am_fr h 23 N) k))) 0) = (S 5 k 34) := j0.2.2.2.1
  have f154 : am_fi h 154 (am_ar h (am_fr h 194 (am_fr h 147 (am_ar h (am_fr h 23 N) k))) 0) = bhd S k 0 := j0.2.2.2.2
  have jk := hJ.1 k 0 hk.1 hk.2 (by omega) hn
  have jk0 : S 5 k 37 = 0 → S 3 (S 5 k 33) 3 = 1 ∧ (S 5 k 34) < S 5 k 35 ∧ S 5 k 35 ≤ S 3 (S 5 k 33) 4 := jk.1
  have jk1 : S 5 k 37 ≠ 0 → (S 3 (S 5 k 33) 3 = 0 → (S 5 k 34) = 0) ∧ (S 3 (S 5 k 33) 3 = 1 → (S 5 k 34) < S 3 (S 5 k 33) 4) := jk.2
  have bh : bhd S k 0 = if S 5 k 37 = 0 then S 5 k 35 else if S 3 (S 5 k 33) 3 = 0 then -1 else S 3 (S 5 k 33) 4 := rfl
  have a3 := ap.2.2.2.2.1
  have a4 := ap.2.2.2.2.2.2.2
  rw [f151, f153, f154, k3, g2]
  refine ⟨⟨rl.1.1, by omega⟩, ⟨Or.inr j0.1.1, j0.1.1, k2, by omega⟩, fun hb => ?_, fun hb => ?_⟩
  · -- it has begun
    have set : S 3 (S 5 k 33) 3 = 1 ∧ (S 5 k 34) < S 3 (S 5 k 33) 4 := by
      by_cases w : S 5 k 37 = 0
      · have := jk0 w
        omega
      · have q := jk1 w
        rw [bh, if_neg w] at hb
        by_cases s0 : S 3 (S 5 k 33) 3 = 0
        · rw [if_pos s0] at hb
          omega
        · exact ⟨by omega, q.2 (by omega)⟩
    have l0 : 0 ≤ (S 5 k 34) := mj.2.1.1
    obtain ⟨z1, z2, z3, z4, z5⟩ := pt.2.2.2.2.2.2.2.2 (by omega)
    have al := (ap.2.2.2.2.2.2.1 set.1).2.2 (S 5 k 34) l0 set.2
    have oP := okPl_A hC hF hA ip (by omega)
    have e0 : stA S k = 0 := if_neg (fun z => absurd z.2.2 (by omega))
    have go := fun o8 => x_run (k := k) (tx := am_ar h (am_fr h 117 (am_ar h (am_fr h 20 N) (S 5 k 33))) (S 5 k 34)) (d := d) (o8 := o8) (by omega) hB2 t hx hN hz hl hB hC hF hG hM hk hn oP ⟨l0, set.2⟩ al.2.2 al.2.1 hr (z2.2.2.2.2 (S 5 k 34) l0 set.2) (fun S' a h' L' rr t' ow c' => H S' a h' L' (Or.inr (Or.inr (Or.inr ⟨c, hn0, hb, rr⟩))) t' (Ow_Out ow (by have := ow.1.1; omega) (by have := ow.1.2.1; omega)) (G10_w ow) (by rw [e0, Ow_capB (L' := L') t.2.2.1 hxN (fx_sub ow.1 (fun _ _ z => z.1))]; exact ⟨by omega, by omega⟩))
    rw [z2.2.2.2.1]
    refine ⟨⟨pt.1.1, z2.1, by omega⟩, g1.1, fun w => ?_, fun w => ?_⟩
    · have q := go none
      rw [am_bf w] at q
      exact q
    · have q := go none
      rw [am_bt w] at q
      exact q
  · -- it begins
    have w37 : S 5 k 37 ≠ 0 := fun w => by
      have := jk0 w
      rw [bh, if_pos w] at hb
      have := mj.2.1.1
      have e34 : S 5 k (34 + 5 * 0) = (S 5 k 34) := rfl
      omega
    have s3 : S 3 (S 5 k 33) 3 = 0 := by
      rw [bh, if_neg w37] at hb
      by_cases s0 : S 3 (S 5 k 33) 3 = 0
      · exact s0
      · rw [if_neg s0] at hb
        omega
    have l0 : (S 5 k 34) = 0 := (jk1 w37).1 s3
    have e1 : stA S k = 1 := if_pos ⟨c, hn0, hb⟩
    have okw := hW _ pb.2.2.1.1 pb.2.2.1.2
    have tl := tells_bd (p := (S 5 k 33)) (mi := S 0 0 0) hY
    have le1 := leS_1 (p := (S 5 k 33)) (mi := S 0 0 0) hY hY1
    have p1 := ap.1.1
    rw [x1.2.2.1]
    refine x_paperM (by omega) t hC hF hY ip (fun h1 t1 a1 z1 u1 hr1 xp sc => am_av (v_X3_turn_34 ⟨t1.2.2.1.1.1, ?_⟩))
    -- cells of the paper alone
    have A1 : fx (fun q => (L q).1 = x ∧ (L q).2.1 = 1) h h1 := fx_sub a1 (fun q _ z => sc_lb t.2.2.1 (Or.inl z))
    have best2 : ∀ h2, fx (fun q => xXs h1 P q ∨ q = P) h1 h2 → (∀ f, am_fr h2 f P = am_fr h1 f P) → Nt h2 L x P N S B ∧ fx (fun q => (L q).1 = x ∧ (L q).2.1 = 1) h h2 ∧ capB h2 P = capB h P := fun h2 a hrr => by
      have t2 := Nt_sc t1 a (fun q e => e.elim (fun e => Or.inr e) Or.inl) (fun f _ _ => hrr f)
      have A2 : fx (fun q => (L q).1 = x ∧ (L q).2.1 = 1) h h2 := fx_trans2 A1 a (fun q _ z => sc_lb t1.2.2.1 (z.elim Or.inr Or.inl))
      refine ⟨t2, A2, ?_⟩
      obtain ⟨y1, y2, y3, y4, y5, y6, y7⟩ := t.2.2.1
      obtain ⟨w1, w2, w3, w4, w5, w6, w7⟩ := t1.2.2.1
      have e15 : am_fr h1 15 P = am_fr h 15 P := hr1 15 (by decide) (by decide)
      have b1 := (a1.2.2.2 _ y5.2.1).2.2 (nd_kne y5 y1 (by decide))
      have nB : ¬ (xXs h1 P (am_fr h1 15 P) ∨ am_fr h1 15 P = P) := fun z => by
        rcases z with (z | z | z) | z
        · exact nd_kne w5 w2.1 (by decide) z
        · exact nd_kne w5 w3.1 (by decide) z
        · exact nd_kne w5 w4.1 (by decide) z
        · exact nd_kne w5 w1 (by decide) z
      have b2 := (a.2.2.2 _ w5.2.1).2.2 nB
      rw [e15] at b2
      unfold capB
      rw [hrr 15, e15, b2.2.1 185, b1.2.1 185, (A2.2.2.2 _ y6.2.1).2.1]
    refine x_best (by omega) ap.1 okw ap.2.1 xp tl.1 tl.2.1 tl.2.2.1 tl.2.2.2.1 sc (by omega) (fun nn h2 a z2 u2 i16 hi hrr => am_av (v_X3_turn_36 ⟨fun w => absurd rfl w, fun _ => ?_⟩)) (fun nn h2 a z2 u2 ty ln ai i16 hi hrr => am_av ?_)
    · -- no way: it is spiked
      obtain ⟨t2, A2, cB⟩ := best2 h2 a hrr
      have sN := Px_same hxN A2 x1.1.2.1 (by rw [x1.1.2.2.2])
      have sM := Px_same hxN A2 x5.1.2.1 (by rw [x5.1.2.2.2])
      have sK := Px_same hxN A2 m1.2.1 (by rw [m1.2.2.2])
      have eM : am_ar h2 (am_fr h2 23 N) k = (am_ar h (am_fr h 23 N) k) := by rw [sN.2.2.2.1 23, sM.2.2.2.2.2]
      refine ⟨sK.1.trans m1.1, ?_⟩
      have sp := fun KK hKK => x_spike (K := KK) (D := d + 12) (k := k) (by omega) t2 hB hk ⟨hn, b29.2⟩ (by have := mo'.2.2.2.2.2.2.1; omega) hKK
      rw [eM] at sp
      refine sp _ (fun h3 t3 f3 z3 u3 => am_an (v_X3_turn_41 ?_))
      have cG : capG h2 N = capG h N := by
        unfold capG
        have sG := Px_same hxN A2 x6.1.1.1.2.2.2.2.1 (by rw [x6.1.2.2.1])
        rw [sN.2.2.2.1 25, sG.2.2.2.1 194, (A2.2.2.2 _ x6.1.1.1.2.2.2.2.2).2.1]
      have cG3 := nG_cap t2 f3
      have cB3 := Ow_capB (L' := L) t2.2.2.1 hxN (fx_sub f3 (fun q _ z => z.1))
      have F3 : fx (fun q => (L q).1 = N ∨ ((L q).1 = x ∧ (L q).2.1 = 1)) h h3 := fx_trans2 (fx_sub A2 (fun q _ z => Or.inr z)) f3 (fun q _ z => Or.inl z.1)
      refine H (spk S k) (-1) h3 L (Or.inr (Or.inl ⟨c, hn0, hb, nn, rfl, rfl⟩)) (Nt_B (by omega) t3) ⟨F3, leL_refl, ⟨by have := F3.1; omega, by have := F3.2.1; omega⟩, fun q hq => Or.inl (t.1.2.2 q hq)⟩ (G10_tr (L1 := L) ⟨sN.2.2.2.1, fun q hq qN q10 => (Px_same hxN A2 hq qN).2.2.2.2.1⟩ leL_refl A2.1 ⟨cG3.2, fun q hq qN q10 => ((f3.2.2.2 q hq).2.2 (fun z => z.2.2.2 q10)).2.2.1⟩) ?_
      have e04 : spk S k 0 0 4 = S 0 0 4 := by
        rw [spk_e, u3_nc (by decide), (awy_c (S := S) (k := k)).1 0 (by decide)]
      rw [e04, e1, cG3.1, cG, cB3, cB]
      exact ⟨by omega, by omega⟩
    · obtain ⟨t2, A2, cB⟩ := best2 h2 a hrr
      have nn' : ((tbS S (S 5 k 33) (S 0 0 0)) 0).1 ≠ -1 := nn
      have nl := nx_ln ap.1 okw ap.2.1 tl.1 tl.2.1 le1 tl.2.2.2.1 (mo := moS S (S 5 k 33) (S 0 0 0)) nn
      have nl1 : 1 ≤ ((tbS S (S 5 k 33) (S 0 0 0)) 0).2.1 ∧ ((tbS S (S 5 k 33) (S 0 0 0)) 0).2.1 ≤ S 3 (S 5 k 33) 1 := nl.1
      have ln' : am_ln h2 (am_sz h1 + 1) = ((tbS S (S 5 k 33) (S 0 0 0)) 0).2.1 := ln
      have ai' : ∀ j : Nat, (j : Int) < ((tbS S (S 5 k 33) (S 0 0 0)) 0).2.1 → am_ai h2 (am_sz h1 + 1) (j : Int) = nx (tbS S (S 5 k 33) (S 0 0 0)) (j + 1) 0 - 1 := ai
      have u2' : am_us h2 = am_us h1 + ((tbS S (S 5 k 33) (S 0 0 0)) 0).2.1.toNat := u2
      have sN := Px_same hxN A2 x1.1.2.1 (by rw [x1.1.2.2.2])
      have sM := Px_same hxN A2 x5.1.2.1 (by rw [x5.1.2.2.2])
      have sK := Px_same hxN A2 m1.2.1 (by rw [m1.2.2.2])
      have sP := Px_same hxN A2 x3.1.2.1 (by rw [x3.1.2.2.2])
      have sL := Px_same hxN A2 rl.1.1.2.2.2.2.1 (by rw [rl.2.2.1])
      have pos : 0 < am_ln h (am_fr h 194 (am_fr h 147 (am_ar h (am_fr h 23 N) k))) := by
        have := rl.1.1.2.2.1
        rw [rl.2.2.2.2.1] at this
        omega
      have sA := Px_same hxN A2 rl.1.1.2.2.2.2.2 (by rw [rl.2.2.2.1 pos])
      have eM : am_ar h2 (am_fr h2 23 N) k = (am_ar h (am_fr h 23 N) k) := by rw [sN.2.2.2.1 23, sM.2.2.2.2.2]
      have eP : am_ar h2 (am_fr h2 20 N) (S 5 k 33) = (am_ar h (am_fr h 20 N) (S 5 k 33)) := by rw [sN.2.2.2.1 20, sP.2.2.2.2.2]
      have eJ : am_ar h2 (am_fr h2 194 (am_fr h2 147 (am_ar h2 (am_fr h2 23 N) k))) 0 = (am_ar h (am_fr h 194 (am_fr h 147 (am_ar h (am_fr h 23 N) k))) 0) := by rw [eM, sK.2.2.2.1 147, sL.2.2.2.1 194, sA.2.2.2.2.2]
      have cG : capG h2 N = capG h N := by
        unfold capG
        have sG := Px_same hxN A2 x6.1.1.1.2.2.2.2.1 (by rw [x6.1.2.2.1])
        rw [sN.2.2.2.1 25, sG.2.2.2.1 194, (A2.2.2.2 _ x6.1.1.1.2.2.2.2.2).2.1]
      have sx := A2.2.2.2 x hz
      have hx2 : am_ty h2 x = 1 := sx.1.trans hx
      have hN2 : am_fr h2 1 x = Rn := ((sx.2.2 (fun z => by
        have z' : (L x).2.1 = 1 := z.2
        rw [hl] at z'
        exact absurd z' (by simp))).2.1 1).trans hN
      have ra : iA h2 L (am_sz h1 + 1) ((tbS S (S 5 k 33) (S 0 0 0)) 0).2.1 (fun l => nx (tbS S (S 5 k 33) (S 0 0 0)) (l.toNat + 1) 0 - 1) := by
        refine ⟨ty, by omega, by omega, t.1.2.2 _ (by have := a1.1; omega), ln', fun l l1 l2 => ?_⟩
        have el : ((l.toNat : Nat) : Int) = l := by omega
        have q := ai' l.toNat (by omega)
        rw [el] at q
        exact q
      have z2' := A2.1
      have u2'' := A2.2.1
      rw [← eJ, ← eM, ← eP]
      refine x_begin (by omega) hB2 t2 hx2 hN2 (by omega) hl hB hC hF hG hM hA hY hY1 hW hJ hk hr hn w37 s3 l0 nn' ra (fun S' a' h' L' rr t' o gg c' => H S' a' h' L' (Or.inr (Or.inr (Or.inl ⟨c, hn0, hb, nn', rr⟩))) t' (Out_le (Out_tr (d1 := am_sz h2 - am_sz h) (u1 := am_us h2 - am_us h) ⟨fx_sub A2 (fun q _ z => Or.inr z), leL_refl, ⟨by omega, by omega⟩, fun q hq => Or.inl (t.1.2.2 q hq)⟩ o) (by have := o.1.1; omega) (by have := o.1.2.1; omega)) (G10_tr (L1 := L) ⟨sN.2.2.2.1, fun q hq qN q10 => (Px_same hxN A2 hq qN).2.2.2.2.1⟩ leL_refl A2.1 gg) ?_)
      rw [e1]
      rw [cG, cB] at c'
      exact ⟨by omega, by omega⟩
end
