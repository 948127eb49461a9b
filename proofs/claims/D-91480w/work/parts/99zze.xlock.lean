set_option maxRecDepth 100000
/-! the component locks a page -/
section
variable {K : am_K} {h : am_H}
theorem x_rightN {L : am_Lb} {x P N : Nat} {S : am_G} {B : Int} {p l : Int} {D : Nat} (hD : 13 ≤ D) (t : Nt h L x P N S B) (hA : okA S) (ip : isP S p) (p100 : 0 ≤ p ∧ p < 100) (c3 : S 3 p 3 ≠ 0) (hl : 0 ≤ l ∧ l < S 3 p 4) (H1 : rgt S p l → K (.inl (some (.inl (1)))) h) (H0 : ¬ rgt S p l → K (.inl (some (.inl (0)))) h) : am_ev am_prog D 231 [.inr (.inl N), .inr (.inl (am_ar h (am_fr h 20 N) p)), .inl l] h K := by
  obtain ⟨x1, x2, x3, x4, x5, x6, x7, x8, x9, x10⟩ := t.2.2.2.1
  have q := (x3.2.2 p p100.1 p100.2).2 ip
  obtain ⟨z1, z2, z3, z4, z5⟩ := q.2.2.2.2.2.2.2.2 c3
  have ap := hA p ip
  have al := ap.2.2.2.2.2.2.1 (by have := ap.2.2.2.2.1; omega)
  refine x_isRight hD x1.1.1 rfl x6.1.1.1 x6.1.2.2.2.2.1 q.1.1 q.2.2.1 ⟨z3.1, z4, z5 l (by omega) (by omega)⟩ ⟨z2.1, z2.2.2.2.1, (z2.2.2.2.2 l (by omega) (by omega)).1⟩ (by omega) (al.2.2 l (by omega) (by omega)).2.2 (fun s s1 s2 => ?_) H1 H0
  have u := x6.2 s s1 s2
  exact ⟨G_ty u, u.2.2.2.2.2.1, u.2.2.2.2.2.2.2.2.2.2.1.1⟩
theorem wai_wai {h : am_H} {r : Nat} {g g' : Int → Int} : am_wai (am_wai h r g) r g' = am_wai h r g' := by
  unfold am_wai
  have e : am_up (am_up h.2.2.2.2.2.2.1 r g) r g' = am_up h.2.2.2.2.2.2.1 r g' := by
    funext j
    unfold am_up
    by_cases c : j = r
    · rw [if_pos c, if_pos c]
    · rw [if_neg c, if_neg c, if_neg c]
  show (h.1, h.2.1, h.2.2.1, h.2.2.2.1, h.2.2.2.2.1, h.2.2.2.2.2.1, am_up (am_up h.2.2.2.2.2.2.1 r g) r g', h.2.2.2.2.2.2.2.1, h.2.2.2.2.2.2.2.2) = _
  rw [e]
theorem sai_wai {h : am_H} {r : Nat} {g : Int → Int} {k v : Int} : am_sai (am_wai h r g) r k v = am_wai h r (am_uz g k v) := by
  unfold am_sai
  rw [x_aiwe, wai_wai]
def ltD (y : Int → Int) (pg mi i : Int) : Int := if mi ≤ ltR y pg i.toNat then 0 else mi - ltR y pg i.toNat
/-- the rules: how late -/
theorem x_late {x N : Nat} {pg m mi : Int} {f r5 q g : Nat} {h2 : am_H} {y : Int → Int} {x6 : Int} {d : Nat} (tx : am_ty h2 x = 1) (fx1 : am_fr h2 1 x = N) (tN : am_ty h2 N = 3) (f18 : am_fi h2 18 N = mi) (tg : am_ty h2 g = 4) (hm : 0 ≤ mi ∧ mi ≤ 600) (xs : xSt h2 q y) (hy : 0 ≤ y 1 ∧ y 1 ≤ 12) (hb : ∀ q, 0 ≤ q → q < y 1 → 0 ≤ y (4 + 5 * q) ∧ y (4 + 5 * q) ≤ 999) (H : K (.inl (some (.inl (x6)))) (am_sfi h2 36 g (ltD y pg mi (y 1)))) : ∀ i, 0 ≤ i → i ≤ y 1 → ∀ o9 o10 o11, am_W m_X1_lock (am_ev am_prog (d + 12)) K 114 [some (.inr (.inl (x))), some (.inl (pg)), some (.inl (m)), some (.inr (.inl (f))), some (.inr (.inl (g))), some (.inr (.inl (r5))), some (.inl (x6)), some (.inr (.inl (q))), some (.inl (i)), o9, o10, o11] [] (am_sfi h2 36 g (ltD y pg mi i)) := by
  obtain ⟨s1, s2, s3, s4, s5, s6, s7, s8⟩ := id xs
  have fi : ∀ v c r, c ≠ 36 → am_fi (am_sfi h2 36 g v) c r = am_fi h2 c r := fun v c r e => x_fif e
  have frE : ∀ v, am_fr (am_sfi h2 36 g v) = am_fr h2 := fun _ => rfl
  have arE : ∀ v, am_ar (am_sfi h2 36 g v) = am_ar h2 := fun _ => rfl
  have xl : ∀ v, xL (am_sfi h2 36 g v) (am_fr h2 134 q) := fun v => by
    unfold xL
    rw [fi v 195 _ (by decide)]
    exact s5
  refine lp_z ?_ ?_
  · intro i i0 i1 hL o9 o10 o11
    obtain ⟨y1, y2, y3, n, val, y4, y5, y6⟩ := s8 i i0 i1
    have ek : (i + 1).toNat = i.toNat + 1 := by omega
    have ekk : ((i.toNat : Nat) : Int) = i := by omega
    have es : ltR y pg (i + 1).toNat = if y (2 + 5 * i) = 6 ∧ y (3 + 5 * i) = pg then y (4 + 5 * i) else ltR y pg i.toNat := by
      rw [ek]
      show (if y (2 + 5 * ((i.toNat : Nat) : Int)) = 6 ∧ y (3 + 5 * ((i.toNat : Nat) : Int)) = pg then y (4 + 5 * ((i.toNat : Nat) : Int)) else ltR y pg i.toNat) = _
      rw [ekk]
    have hb4 := hb i i0 i1
    have hL' : ∀ t, ltR y pg (i + 1).toNat = t → ∀ v, (if mi ≤ t then 0 else mi - t) = v → ∀ o9 o10 o11, am_W m_X1_lock (am_ev am_prog (d + 12)) K 114 [some (.inr (.inl (x))), some (.inl (pg)), some (.inl (m)), some (.inr (.inl (f))), some (.inr (.inl (g))), some (.inr (.inl (r5))), some (.inl (x6)), some (.inr (.inl (q))), some (.inl (i + 1)), o9, o10, o11] [] (am_sfi h2 36 g v) := by
      intro t et v ev
      rw [← ev, ← et]
      exact hL
    refine v_X1_lock_114 ?_
    rw [frE, arE, fx1, fi _ 195 _ (by decide), fi _ 121 _ (by decide), fi _ 122 _ (by decide), fi _ 123 _ (by decide), fi _ 18 _ (by decide), s6, y1, y2, y3, f18, sfi_sfi, sfi_sfi]
    refine ⟨fun z => absurd z s3, fun _ => ⟨s1, s5.1, fun z => absurd z (by omega), fun _ => ⟨⟨xl _, by omega⟩, Or.inr y5.1, y5.1, fun z => ⟨by omega, hL' _ (es.trans (if_neg (fun w => z w.1))) _ rfl _ _ _⟩, fun z => ⟨fun z2 => ⟨by omega, hL' _ (es.trans (if_neg (fun w => z2 w.2))) _ rfl _ _ _⟩, fun z2 => ⟨⟨tx, tN⟩, by omega, fun z3 => ⟨tg, by omega, hL' _ (es.trans (if_pos ⟨z, z2⟩)) _ (if_neg (by omega)) _ _ _⟩, fun z3 => ⟨tg, by omega, hL' _ (es.trans (if_pos ⟨z, z2⟩)) _ (if_pos (by omega)) _ _ _⟩⟩⟩⟩⟩⟩
  · intro o9 o10 o11
    refine v_X1_lock_114 ?_
    rw [frE, fi _ 195 _ (by decide), s6]
    exact ⟨fun z => absurd z s3, fun _ => ⟨s1, s5.1, fun _ => H, fun z => absurd z (by omega)⟩⟩
def V5 (gg : Int → Int) (A : List Int) : Prop := ∀ i : Nat, i < A.length → gg (i : Int) = gt A i
theorem V5_s {gg : Int → Int} {A : List Int} {v : Int} (h : V5 gg A) : V5 (am_uz gg (A.length : Int) v) (A ++ [v]) := by
  intro i hi
  rw [List.length_append] at hi
  by_cases c : i = A.length
  · rw [c, am_uz_eq, gt_last]
  · have : i < A.length := by
      have e : [v].length = 1 := rfl
      omega
    rw [am_uz_ne (by omega), gt_app _ _ this]
    exact h i this
theorem clV_nil {S : am_G} {st col pa : Int → Int} {c : Int} : ∀ m : Nat, (∀ j, 0 ≤ j → j < (m : Int) → col j ≠ c) → clV S st col pa c m = []
  | 0, _ => rfl
  | m + 1, h => by
    show clV S st col pa c m ++ (if col (m : Int) = c then ptV S (st (m : Int)) (pa (m : Int)).toNat else []) = []
    rw [clV_nil m (fun j a b => h j a (by omega)), if_neg (h m (by omega) (by omega))]
    rfl
theorem lkV_top {S : am_G} {st col pa : Int → Int} {n : Nat} {c : Int} (hc : 0 ≤ c ∧ c ≤ 3) (h : ∀ j, 0 ≤ j → j < (n : Int) → col j < c) : lkV S st col pa n 3 = lkV S st col pa n c.toNat := by
  have z : ∀ k : Nat, c ≤ (k : Int) → lkV S st col pa n (k + 1) = lkV S st col pa n k := fun k hk => by
    show lkV S st col pa n k ++ clV S st col pa (k : Int) n = _
    rw [clV_nil n (fun j a b => by have := h j a b; omega), List.append_nil]
  have cc : c = 0 ∨ c = 1 ∨ c = 2 ∨ c = 3 := by omega
  rcases cc with e | e | e | e
  · rw [e] at z ⊢
    exact (z 2 (by omega)).trans ((z 1 (by omega)).trans (z 0 (by omega)))
  · rw [e] at z ⊢
    exact (z 2 (by omega)).trans (z 1 (by omega))
  · rw [e] at z ⊢
    exact z 2 (by omega)
  · rw [e]
    rfl
theorem lkV_le {S : am_G} {st col pa : Int → Int} {n : Nat} {k : Nat} (h : k ≤ 3) : (lkV S st col pa n k).length ≤ (lkV S st col pa n 3).length := by
  have e1 : (lkV S st col pa n 1).length = (lkV S st col pa n 0).length + (clV S st col pa 0 n).length := List.length_append
  have e2 : (lkV S st col pa n 2).length = (lkV S st col pa n 1).length + (clV S st col pa 1 n).length := List.length_append
  have e3 : (lkV S st col pa n 3).length = (lkV S st col pa n 2).length + (clV S st col pa 2 n).length := List.length_append
  have cc : k = 0 ∨ k = 1 ∨ k = 2 ∨ k = 3 := by omega
  rcases cc with e | e | e | e <;> rw [e] <;> omega
/-- a story's lines are right -/
def RJ (S : am_G) (st pa : Int → Int) (j : Int) : Prop := ∀ k, 0 ≤ k → k < pa j → ∀ l, 0 ≤ l → l < S 3 (5 * st j + k) 4 → rgt S (5 * st j + k) l
theorem x_lock2 {L : am_Lb} {x P N : Nat} {S : am_G} {B : Int} {pg m : Int} {f r5 g a2 a3 a4 : Nat} {n : Nat} {st : Int → Int} {σ : am_Ft} {h1 : am_H} {d : Nat} (hd : 20 ≤ d) (hC : okC S) (hF : okF S) (hA : okA S) (hH : okH S) (hp : 0 ≤ pg ∧ pg < 6) (hn : n ≤ 4) (hs : ∀ j, 0 ≤ j → j < (n : Int) → (0 ≤ st j ∧ st j < (S 0 0 1)) ∧ ∀ k, 0 ≤ k → k < S 2 2 (st j) → S 3 (5 * st j + k) 3 ≠ 0) (hg : gdR S pg st n σ) (hb : σ.1 ≠ -1)
    (T : ∀ gg, Nt (am_wai h1 r5 gg) L x P N S B) (tx : am_ty h1 x = 1) (fN : am_fr h1 1 x = N) (tf : am_ty h1 f = 26) (tg : am_ty h1 g = 4) (f33 : am_fi h1 33 g = S 8 pg 0) (e2 : am_fr h1 172 f = a2) (e3 : am_fr h1 173 f = a3) (e4 : am_fr h1 174 f = a4) (t2 : am_ty h1 a2 = 101) (t3 : am_ty h1 a3 = 101) (t4 : am_ty h1 a4 = 101) (l2 : am_ln h1 a2 = n) (l3 : am_ln h1 a3 = n) (l4 : am_ln h1 a4 = n) (n2 : a2 ≠ r5) (n3 : a3 ≠ r5) (n4 : a4 ≠ r5) (v2 : ∀ j, 0 ≤ j → j < (n : Int) → am_ai h1 a2 j = st j) (v3 : ∀ j, 0 ≤ j → j < (n : Int) → am_ai h1 a3 j = σ.2.1 j) (v4 : ∀ j, 0 ≤ j → j < (n : Int) → am_ai h1 a4 j = σ.2.2 j) (t5 : am_ty h1 r5 = 101) (l5 : am_ln h1 r5 = σ.1)
    (H4 : ¬ AR S st σ.2.2 n → ∀ gg, K (.inl (some (.inl (-1)))) (am_wai h1 r5 gg))
    (H0 : AR S st σ.2.2 n → ∀ gg, V5 gg (lkV S st σ.2.1 σ.2.2 n 3) → ∀ o8 o9 o10 o11, am_W m_X1_lock (am_ev am_prog (d + 12)) K 24 [some (.inr (.inl (x))), some (.inl (pg)), some (.inl (m)), some (.inr (.inl (f))), some (.inr (.inl (g))), some (.inr (.inl (r5))), some (.inl (σ.1)), some (.inl (S 8 pg 0)), o8, o9, o10, o11] [] (am_wai h1 r5 gg)) : ∀ gg, ∀ o8 o9 o10 o11, am_W m_X1_lock (am_ev am_prog (d + 12)) K 24 [some (.inr (.inl (x))), some (.inl (pg)), some (.inl (m)), some (.inr (.inl (f))), some (.inr (.inl (g))), some (.inr (.inl (r5))), some (.inl (0)), some (.inl (0)), o8, o9, o10, o11] [] (am_wai h1 r5 gg) := by
  have c1 := hC.2.1
  have h8 := hH pg hp.1 hp.2
  have gd := hg.2 hb
  have fj : ∀ j, 0 ≤ j → j < (n : Int) → 1 ≤ S 2 2 (st j) ∧ S 2 2 (st j) ≤ 5 := fun j a b => (hF (st j) (hs j a b).1.1 (hs j a b).1.2).2.2
  have ipj : ∀ j, 0 ≤ j → j < (n : Int) → ∀ k, 0 ≤ k → k < S 2 2 (st j) → isP S (5 * st j + k) := fun j a b k k0 k1 => isP_5 (S := S) (hs j a b).1 ⟨k0, k1⟩ (fj j a b).2
  obtain ⟨ll, l180⟩ := lkV_bd h8.2.1.2 (fun j a b => ⟨by have := fj j a b; omega, fun k k0 k1 => (hA _ (ipj j a b k k0 k1)).2.2.2.2.2.2.2.1⟩) hg hb
  have w2 : ∀ gg, am_fr (am_wai h1 r5 gg) 172 f = a2 := fun _ => e2
  have w3 : ∀ gg, am_fr (am_wai h1 r5 gg) 173 f = a3 := fun _ => e3
  have w4 : ∀ gg, am_fr (am_wai h1 r5 gg) 174 f = a4 := fun _ => e4
  have wN : ∀ gg, am_fr (am_wai h1 r5 gg) 1 x = N := fun _ => fN
  have m2 : ∀ gg, am_ln (am_wai h1 r5 gg) a2 = n := fun _ => l2
  have m3 : ∀ gg, am_ln (am_wai h1 r5 gg) a3 = n := fun _ => l3
  have m4 : ∀ gg, am_ln (am_wai h1 r5 gg) a4 = n := fun _ => l4
  have m5 : ∀ gg, am_ln (am_wai h1 r5 gg) r5 = σ.1 := fun _ => l5
  have u2 : ∀ gg j, 0 ≤ j → j < (n : Int) → am_ai (am_wai h1 r5 gg) a2 j = st j := fun gg j a b => by rw [x_air n2]; exact v2 j a b
  have u3 : ∀ gg j, 0 ≤ j → j < (n : Int) → am_ai (am_wai h1 r5 gg) a3 j = σ.2.1 j := fun gg j a b => by rw [x_air n3]; exact v3 j a b
  have u4 : ∀ gg j, 0 ≤ j → j < (n : Int) → am_ai (am_wai h1 r5 gg) a4 j = σ.2.2 j := fun gg j a b => by rw [x_air n4]; exact v4 j a b
  have w33 : ∀ gg, am_fi (am_wai h1 r5 gg) 33 g = S 8 pg 0 := fun _ => f33
  -- lines of a part
  have q4 : ∀ (c j k : Int) (A : List Int), 0 ≤ j → j < (n : Int) → 0 ≤ k → k < σ.2.2 j → ((A ++ lnV S (5 * st j + k) (S 3 (5 * st j + k) 4).toNat).length : Int) ≤ σ.1 → ((∀ l, 0 ≤ l → l < S 3 (5 * st j + k) 4 → rgt S (5 * st j + k) l) → ∀ gg, V5 gg (A ++ lnV S (5 * st j + k) (S 3 (5 * st j + k) 4).toNat) → ∀ o10 o11, am_W m_X1_lock (am_ev am_prog (d + 12)) K 44 [some (.inr (.inl (x))), some (.inl (pg)), some (.inl (m)), some (.inr (.inl (f))), some (.inr (.inl (g))), some (.inr (.inl (r5))), some (.inl (((A ++ lnV S (5 * st j + k) (S 3 (5 * st j + k) 4).toNat).length : Int))), some (.inl (c)), some (.inl (j)), some (.inl (k + 1)), o10, o11] [] (am_wai h1 r5 gg)) → ∀ i, 0 ≤ i → i ≤ S 3 (5 * st j + k) 4 → (∀ l, 0 ≤ l → l < i → rgt S (5 * st j + k) l) → ∀ gg, V5 gg (A ++ lnV S (5 * st j + k) i.toNat) → am_W m_X1_lock (am_ev am_prog (d + 12)) K 65 [some (.inr (.inl (x))), some (.inl (pg)), some (.inl (m)), some (.inr (.inl (f))), some (.inr (.inl (g))), some (.inr (.inl (r5))), some (.inl (((A ++ lnV S (5 * st j + k) i.toNat).length : Int))), some (.inl (c)), some (.inl (j)), some (.inl (k)), some (.inr (.inl (am_ar h1 (am_fr h1 20 N) (5 * st j + k)))), some (.inl (i))] [] (am_wai h1 r5 gg) := by
    intro c j k A j0 j1 k0 k1 hbd HK
    have sj := hs j j0 j1
    have gj := gd.1 j j0 j1
    have ff := fj j j0 j1
    have ip := ipj j j0 j1 k k0 (by omega)
    have a := hA _ ip
    have s3 := sj.2 k k0 (by omega)
    have p4 := a.2.2.2.2.2.2.2
    have rp : ∀ gg, rPt (am_wai h1 r5 gg) L N S (5 * st j + k) (am_ar h1 (am_fr h1 20 N) (5 * st j + k)) := fun gg => ((T gg).2.2.2.1.2.2.1.2.2 (5 * st j + k) (by omega) (by omega)).2 ip
    rw [List.length_append, lnV_len] at hbd
    refine lp_z ?_ ?_
    · intro i i0 i1 hL hr gg vg
      have el : ((A ++ lnV S (5 * st j + k) i.toNat).length : Int) = A.length + i := by
        rw [List.length_append, lnV_len]
        omega
      have ei : (i + 1).toNat = i.toNat + 1 := by omega
      have eii : ((i.toNat : Nat) : Int) = i := by omega
      have es : A ++ lnV S (5 * st j + k) (i + 1).toNat = (A ++ lnV S (5 * st j + k) i.toNat) ++ [S 3 (5 * st j + k) (45 + i) - 1] := by
        rw [ei]
        show A ++ (lnV S (5 * st j + k) i.toNat ++ [S 3 (5 * st j + k) (45 + ((i.toNat : Nat) : Int)) - 1]) = _
        rw [eii, List.append_assoc]
      rw [es] at hL
      have el2 : (((A ++ lnV S (5 * st j + k) i.toNat) ++ [S 3 (5 * st j + k) (45 + i) - 1]).length : Int) = ((A ++ lnV S (5 * st j + k) i.toNat).length : Int) + 1 := by
        rw [List.length_append]
        rfl
      rw [el2] at hL
      obtain ⟨z1, z2, z3, z4, z5⟩ := (rp gg).2.2.2.2.2.2.2.2 s3
      refine v_X1_lock_65 ?_
      rw [z4, wN]
      refine ⟨⟨(rp gg).1.1, Or.inl z3.1⟩, fun z => absurd z (by omega), fun _ => ⟨tx, (T gg).2.2.2.1.1.1.1, ?_⟩⟩
      refine x_rightN (by omega) (T gg) hA ip (by omega) s3 ⟨i0, i1⟩ (fun rt => am_av (v_X1_lock_75 ⟨fun _ => ?_, fun z => absurd z (by decide)⟩)) (fun rt => am_av (v_X1_lock_75 ⟨fun z => absurd rfl z, fun _ => H4 (fun z => rt (z j j0 j1 k k0 k1 i i0 i1)) gg⟩))
      rw [z4, m5, z5 i i0 i1, sai_wai]
      refine ⟨⟨(rp gg).1.1, Or.inl z3.1, by omega, t5, by omega⟩, by omega, hL (fun l a b => ?_) _ (V5_s vg)⟩
      by_cases e : l = i
      · rw [e]
        exact rt
      · exact hr l a (by omega)
    · intro hr gg vg
      obtain ⟨z1, z2, z3, z4, z5⟩ := (rp gg).2.2.2.2.2.2.2.2 s3
      refine v_X1_lock_65 ?_
      rw [z4]
      exact ⟨⟨(rp gg).1.1, Or.inl z3.1⟩, fun _ => ⟨by omega, HK hr gg vg _ _⟩, fun z => absurd z (by omega)⟩
  -- parts of a story
  have q3 : ∀ (c j : Int) (A : List Int), 0 ≤ j → j < (n : Int) → ((A ++ ptV S (st j) (σ.2.2 j).toNat).length : Int) ≤ σ.1 → (RJ S st σ.2.2 j → ∀ gg, V5 gg (A ++ ptV S (st j) (σ.2.2 j).toNat) → ∀ o9 o10 o11, am_W m_X1_lock (am_ev am_prog (d + 12)) K 30 [some (.inr (.inl (x))), some (.inl (pg)), some (.inl (m)), some (.inr (.inl (f))), some (.inr (.inl (g))), some (.inr (.inl (r5))), some (.inl (((A ++ ptV S (st j) (σ.2.2 j).toNat).length : Int))), some (.inl (c)), some (.inl (j + 1)), o9, o10, o11] [] (am_wai h1 r5 gg)) → ∀ k, 0 ≤ k → k ≤ σ.2.2 j → (∀ k', 0 ≤ k' → k' < k → ∀ l, 0 ≤ l → l < S 3 (5 * st j + k') 4 → rgt S (5 * st j + k') l) → ∀ gg, V5 gg (A ++ ptV S (st j) k.toNat) → ∀ o10 o11, am_W m_X1_lock (am_ev am_prog (d + 12)) K 44 [some (.inr (.inl (x))), some (.inl (pg)), some (.inl (m)), some (.inr (.inl (f))), some (.inr (.inl (g))), some (.inr (.inl (r5))), some (.inl (((A ++ ptV S (st j) k.toNat).length : Int))), some (.inl (c)), some (.inl (j)), some (.inl (k)), o10, o11] [] (am_wai h1 r5 gg) := by
    intro c j A j0 j1 hbd HK
    have sj := hs j j0 j1
    have gj := gd.1 j j0 j1
    have ff := fj j j0 j1
    have up : ∀ k : Int, 0 ≤ k → k ≤ σ.2.2 j → ((A ++ ptV S (st j) k.toNat).length : Int) ≤ σ.1 := by
      refine lp_z ?_ hbd
      intro k k0 k1 h
      have ek : (k + 1).toNat = k.toNat + 1 := by omega
      rw [ek] at h
      have h' : ((A ++ (ptV S (st j) k.toNat ++ lnV S (5 * st j + ((k.toNat : Nat) : Int)) (S 3 (5 * st j + ((k.toNat : Nat) : Int)) 4).toNat)).length : Int) ≤ σ.1 := h
      rw [List.length_append, List.length_append] at h'
      rw [List.length_append]
      omega
    refine lp_z ?_ ?_
    · intro k k0 k1 hL hr gg vg o10 o11
      have ek : (k + 1).toNat = k.toNat + 1 := by omega
      have ekk : ((k.toNat : Nat) : Int) = k := by omega
      have es : A ++ ptV S (st j) (k + 1).toNat = (A ++ ptV S (st j) k.toNat) ++ lnV S (5 * st j + k) (S 3 (5 * st j + k) 4).toNat := by
        rw [ek]
        show A ++ (ptV S (st j) k.toNat ++ lnV S (5 * st j + ((k.toNat : Nat) : Int)) (S 3 (5 * st j + ((k.toNat : Nat) : Int)) 4).toNat) = _
        rw [ekk, List.append_assoc]
      have u := up (k + 1) (by omega) (by omega)
      rw [es] at hL u
      refine v_X1_lock_44 ?_
      obtain ⟨g1, g2, g3, g4⟩ := P_fc (T gg)
      rw [w4, m4, u4 gg j j0 j1, w2, m2, u2 gg j j0 j1, wN, g3]
      refine ⟨⟨tf, Or.inl t4, by omega⟩, fun z => absurd z (by omega), fun _ => ⟨⟨tx, g1, Or.inl t2, by omega, by omega, by omega, g2, by omega⟩, ?_⟩⟩
      have q := q4 c j k (A ++ ptV S (st j) k.toNat) j0 j1 k0 k1 u (fun rl => hL (fun k' a b => ?_)) 0 (by omega) (hA _ (ipj j j0 j1 k k0 (by omega))).2.2.2.2.2.2.2.1 (fun l a b => absurd b (by omega)) gg
      · have e0 : (A ++ ptV S (st j) k.toNat) ++ lnV S (5 * st j + k) ((0 : Int)).toNat = A ++ ptV S (st j) k.toNat := List.append_nil _
        rw [e0] at q
        exact q vg
      · by_cases e : k' = k
        · rw [e]
          exact rl
        · exact hr k' a (by omega)
    · intro hr gg vg o10 o11
      refine v_X1_lock_44 ?_
      rw [w4, m4, u4 gg j j0 j1]
      exact ⟨⟨tf, Or.inl t4, by omega⟩, fun _ => ⟨by omega, HK hr gg vg _ _ _⟩, fun z => absurd z (by omega)⟩
  -- stories of a column
  have q2 : ∀ (c : Int) (A : List Int), 0 ≤ c → c < S 8 pg 0 → ((A ++ clV S st σ.2.1 σ.2.2 c n).length : Int) ≤ σ.1 → ((∀ j, 0 ≤ j → j < (n : Int) → σ.2.1 j = c → RJ S st σ.2.2 j) → ∀ gg, V5 gg (A ++ clV S st σ.2.1 σ.2.2 c n) → ∀ o8 o9 o10 o11, am_W m_X1_lock (am_ev am_prog (d + 12)) K 24 [some (.inr (.inl (x))), some (.inl (pg)), some (.inl (m)), some (.inr (.inl (f))), some (.inr (.inl (g))), some (.inr (.inl (r5))), some (.inl (((A ++ clV S st σ.2.1 σ.2.2 c n).length : Int))), some (.inl (c + 1)), o8, o9, o10, o11] [] (am_wai h1 r5 gg)) → ∀ j, 0 ≤ j → j ≤ (n : Int) → (∀ j', 0 ≤ j' → j' < j → σ.2.1 j' = c → RJ S st σ.2.2 j') → ∀ gg, V5 gg (A ++ clV S st σ.2.1 σ.2.2 c j.toNat) → ∀ o9 o10 o11, am_W m_X1_lock (am_ev am_prog (d + 12)) K 30 [some (.inr (.inl (x))), some (.inl (pg)), some (.inl (m)), some (.inr (.inl (f))), some (.inr (.inl (g))), some (.inr (.inl (r5))), some (.inl (((A ++ clV S st σ.2.1 σ.2.2 c j.toNat).length : Int))), some (.inl (c)), some (.inl (j)), o9, o10, o11] [] (am_wai h1 r5 gg) := by
    intro c A c00 c3 hbd HK
    have en : ((n : Int)).toNat = n := by omega
    have up : ∀ j : Int, 0 ≤ j → j ≤ (n : Int) → ((A ++ clV S st σ.2.1 σ.2.2 c j.toNat).length : Int) ≤ σ.1 := by
      refine lp_z ?_ (by rw [en]; exact hbd)
      intro k k0 k1 h
      have ek : (k + 1).toNat = k.toNat + 1 := by omega
      rw [ek] at h
      have h' : ((A ++ (clV S st σ.2.1 σ.2.2 c k.toNat ++ _)).length : Int) ≤ σ.1 := h
      rw [List.length_append, List.length_append] at h'
      rw [List.length_append]
      omega
    refine lp_z ?_ ?_
    · intro j j0 j1 hL hr gg vg o9 o10 o11
      have ek : (j + 1).toNat = j.toNat + 1 := by omega
      have ekk : ((j.toNat : Nat) : Int) = j := by omega
      have es : A ++ clV S st σ.2.1 σ.2.2 c (j + 1).toNat = (A ++ clV S st σ.2.1 σ.2.2 c j.toNat) ++ (if σ.2.1 j = c then ptV S (st j) (σ.2.2 j).toNat else []) := by
        rw [ek]
        show A ++ (clV S st σ.2.1 σ.2.2 c j.toNat ++ (if σ.2.1 ((j.toNat : Nat) : Int) = c then ptV S (st ((j.toNat : Nat) : Int)) (σ.2.2 ((j.toNat : Nat) : Int)).toNat else [])) = _
        rw [ekk, List.append_assoc]
      have u := up (j + 1) (by omega) (by omega)
      rw [es] at hL u
      have gj := gd.1 j j0 j1
      refine v_X1_lock_30 ?_
      rw [w2, w3, m2, m3, u3 gg j j0 j1]
      refine ⟨⟨tf, Or.inl t2⟩, fun z => absurd z (by omega), fun _ => ⟨⟨Or.inl t3, by omega⟩, fun jc => ?_, fun jc => ⟨by omega, ?_⟩⟩⟩
      · rw [if_pos jc] at hL u
        have q := q3 c j (A ++ clV S st σ.2.1 σ.2.2 c j.toNat) j0 j1 u (fun rj => hL (fun j' a b e => ?_)) 0 (by omega) (by omega) (fun k' a b => absurd b (by omega)) gg
        · have e0 : (A ++ clV S st σ.2.1 σ.2.2 c j.toNat) ++ ptV S (st j) ((0 : Int)).toNat = A ++ clV S st σ.2.1 σ.2.2 c j.toNat := List.append_nil _
          rw [e0] at q
          exact q vg _ _
        · by_cases e2 : j' = j
          · rw [e2]
            exact rj
          · exact hr j' a (by omega) e
      · rw [if_neg jc, List.append_nil] at hL
        refine hL (fun j' a b e => ?_) gg vg _ _ _
        by_cases e2 : j' = j
        · rw [e2] at e
          exact absurd e jc
        · exact hr j' a (by omega) e
    · intro hr gg vg o9 o10 o11
      rw [en] at vg ⊢
      refine v_X1_lock_30 ?_
      rw [w2, m2]
      exact ⟨⟨tf, Or.inl t2⟩, fun _ => ⟨by omega, HK hr gg vg _ _ _ _⟩, fun z => absurd z (by omega)⟩
  -- columns
  have q1 : ∀ c, 0 ≤ c → c ≤ S 8 pg 0 → (∀ j, 0 ≤ j → j < (n : Int) → σ.2.1 j < c → RJ S st σ.2.2 j) → ∀ gg, V5 gg (lkV S st σ.2.1 σ.2.2 n c.toNat) → ∀ o8 o9 o10 o11, am_W m_X1_lock (am_ev am_prog (d + 12)) K 24 [some (.inr (.inl (x))), some (.inl (pg)), some (.inl (m)), some (.inr (.inl (f))), some (.inr (.inl (g))), some (.inr (.inl (r5))), some (.inl (((lkV S st σ.2.1 σ.2.2 n c.toNat).length : Int))), some (.inl (c)), o8, o9, o10, o11] [] (am_wai h1 r5 gg) := by
    refine lp_z ?_ ?_
    · intro c c00 c3 hL hr gg vg o8 o9 o10 o11
      have ek : (c + 1).toNat = c.toNat + 1 := by omega
      have ekk : ((c.toNat : Nat) : Int) = c := by omega
      have es : lkV S st σ.2.1 σ.2.2 n (c + 1).toNat = lkV S st σ.2.1 σ.2.2 n c.toNat ++ clV S st σ.2.1 σ.2.2 c n := by
        rw [ek]
        show lkV S st σ.2.1 σ.2.2 n c.toNat ++ clV S st σ.2.1 σ.2.2 ((c.toNat : Nat) : Int) n = _
        rw [ekk]
      have u := lkV_le (S := S) (st := st) (col := σ.2.1) (pa := σ.2.2) (n := n) (k := (c + 1).toNat) (by omega)
      rw [es] at hL u
      refine v_X1_lock_24 ?_
      rw [w33]
      refine ⟨tg, fun z => absurd z (by omega), fun _ => ?_⟩
      have q := q2 c (lkV S st σ.2.1 σ.2.2 n c.toNat) c00 c3 (by omega) (fun rj => hL (fun j a b e => ?_)) 0 (by omega) (by omega) (fun j' a b => absurd b (by omega)) gg
      · have e0 : lkV S st σ.2.1 σ.2.2 n c.toNat ++ clV S st σ.2.1 σ.2.2 c ((0 : Int)).toNat = lkV S st σ.2.1 σ.2.2 n c.toNat := List.append_nil _
        rw [e0] at q
        exact q vg _ _ _
      · by_cases e2 : σ.2.1 j = c
        · exact rj j a b e2
        · exact hr j a b (by omega)
    · intro hr gg vg o8 o9 o10 o11
      have et := lkV_top (S := S) (st := st) (pa := σ.2.2) (n := n) h8.1 (fun j a b => (gd.1 j a b).1.2)
      rw [← et] at vg ⊢
      rw [ll]
      exact H0 (fun j a b => hr j a b (gd.1 j a b).1.2) gg vg _ _ _ _
  intro gg
  exact q1 0 (by omega) h8.1.1 (fun j a b c => absurd c (by have := (gd.1 j a b).1; omega)) gg (fun i hi => absurd hi (Nat.not_lt_zero i))
end
