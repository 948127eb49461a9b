set_option maxRecDepth 100000
/-! a machine is copied -/
/-- an iterator's cell -/
def itC (h : am_H) (i l : Nat) (k c : Int) : Prop := am_ty h i = 38 ∧ am_fr h 199 i = l ∧ am_fi h 196 i = k ∧ am_fi h 198 i = c
/-- a machine, some of its jobs copied -/
def MI (h : am_H) (L : am_Lb) (N : Nat) (S : am_G) (k i : Int) (h' : am_H) (L' : am_Lb) : Prop := fx (fun _ => False) h h' ∧ leL h L L' ∧ okLb h' L' ∧ (∀ q, am_sz h < q → (L' q).1 = 0 ∨ (L' q).1 = N) ∧ nd h' L' (am_sz h + 1) 21 N 5 1 k ∧ (am_fr h' 144 (am_sz h + 1) = (am_sz h + 2) ∧ am_fr h' 147 (am_sz h + 1) = (am_sz h + 3) ∧ am_fi h' 145 (am_sz h + 1) = S 5 k 27 ∧ am_fi h' 146 (am_sz h + 1) = S 5 k 28) ∧ nd h' L' (am_sz h + 2) 101 N 5 2 k ∧ am_ln h' (am_sz h + 2) = 27 ∧ (∀ c, 0 ≤ c → c < 27 → am_ai h' (am_sz h + 2) c = S 5 k c) ∧ rL h' L' (am_sz h + 3) N 5 3 k i i ∧ (∀ j, 0 ≤ j → j < i → rJ h' L' N S k j (am_ar h' (am_fr h' 194 (am_sz h + 3)) j)) ∧ (∀ a b, 0 ≤ a → a < b → b < i → am_ar h' (am_fr h' 194 (am_sz h + 3)) a ≠ am_ar h' (am_fr h' 194 (am_sz h + 3)) b) ∧ (am_ln h' (am_fr h' 194 (am_sz h + 3)) ≤ 10 ∨ 2 * am_ln h' (am_fr h' 194 (am_sz h + 3)) ≤ 3 * i) ∧ (am_sz h' : Int) ≤ am_sz h + 4 + 2 * i ∧ (am_us h' : Int) ≤ am_us h + 41 + 4 * i + 5 * am_ln h' (am_fr h' 194 (am_sz h + 3)) ∧ (0 < am_ln h' (am_fr h' 194 (am_sz h + 3)) → am_sz h < (am_fr h' 194 (am_sz h + 3)))
/-- one job more -/
theorem MI_s {h : am_H} {L : am_Lb} {N : Nat} {S : am_G} {k i : Int} {h' hJ h'' : am_H} {L' : am_Lb} (N0 : N ≠ 0) (c0 : am_cs h 0 ≤ am_sz h) (x : MI h L N S k i h' L') (i0 : 0 ≤ i ∧ i < 30) (lit : (L' (am_sz h + 4)).1 = 0) (fJ : fx (fun c => c = (am_sz h + 4)) h' hJ) (zJ : am_sz hJ = am_sz h' + 1) (uJ : am_us hJ = am_us h' + 4) (tJ : am_ty hJ (am_sz h' + 1) = 22) (v1 : am_fi hJ 151 (am_sz h' + 1) = S 5 k (33 + 5 * i)) (v2 : am_fi hJ 152 (am_sz h' + 1) = S 5 k (36 + 5 * i)) (v3 : am_fi hJ 153 (am_sz h' + 1) = S 5 k (34 + 5 * i)) (v4 : am_fi hJ 154 (am_sz h' + 1) = bhd S k i) (f2 : fx (fun q => q = (am_sz h + 3) ∨ (q = am_fr hJ 194 (am_sz h + 3) ∧ am_fi hJ 195 (am_sz h + 3) < am_ln hJ (am_fr hJ 194 (am_sz h + 3)))) hJ h'') (xm : xLm h'' (am_sz h + 3)) (e5 : am_fi h'' 195 (am_sz h + 3) = am_fi hJ 195 (am_sz h + 3) + 1) (e3 : am_fi h'' 193 (am_sz h + 3) = am_fi hJ 193 (am_sz h + 3) + 1) (el : ∀ j, 0 ≤ j → j < am_fi hJ 195 (am_sz h + 3) → am_ar h'' (am_fr h'' 194 (am_sz h + 3)) j = am_ar hJ (am_fr hJ 194 (am_sz h + 3)) j) (en : am_ar h'' (am_fr h'' 194 (am_sz h + 3)) (am_fi hJ 195 (am_sz h + 3)) = am_sz h' + 1) (hA : am_fr h'' 194 (am_sz h + 3) = am_fr hJ 194 (am_sz h + 3) ∨ am_sz hJ < am_fr h'' 194 (am_sz h + 3)) (hu : (am_us h'' : Int) + 5 * am_ln hJ (am_fr hJ 194 (am_sz h + 3)) ≤ am_us hJ + 5 * am_ln h'' (am_fr h'' 194 (am_sz h + 3))) (hg : am_ln h'' (am_fr h'' 194 (am_sz h + 3)) = am_ln hJ (am_fr hJ 194 (am_sz h + 3)) ∨ (am_fi hJ 195 (am_sz h + 3) = am_ln hJ (am_fr hJ 194 (am_sz h + 3)) ∧ am_ln hJ (am_fr hJ 194 (am_sz h + 3)) < am_ln h'' (am_fr h'' 194 (am_sz h + 3)))) (hs : am_sz h'' ≤ am_sz hJ + 1) (hc : am_ln h'' (am_fr h'' 194 (am_sz h + 3)) = am_ln hJ (am_fr hJ 194 (am_sz h + 3)) ∨ am_ln h'' (am_fr h'' 194 (am_sz h + 3)) = 10 ∨ 2 * am_ln h'' (am_fr h'' 194 (am_sz h + 3)) ≤ 3 * am_fi hJ 195 (am_sz h + 3) + 1) : ∃ L'', MI h L N S k (i + 1) h'' L'' ∧ leL h' L' L'' := by
  obtain ⟨x1, x2, x3, x4, x5, x6, x7, x8, x9, x10, x11, x12, x13, x14, x15, x16⟩ := x
  have r5 := x10.2.2.2.2.1
  have z3z := x10.1.1.2.2.2.2.1
  have lz3 := x10.2.2.1
  -- the job's label
  have le1 : leL h' L' (lbA L' h' (am_sz h' + 1) (N, 5, 5, k)) := fun q hq => if_neg (fun y => absurd y.2 (by omega))
  have ok1 : okLb hJ (lbA L' h' (am_sz h' + 1) (N, 5, 5, k)) := okLb_lb x3 fJ ⟨by omega, by omega⟩ (by rw [tJ]; unfold imT; omega)
  have lq : lbA L' h' (am_sz h' + 1) (N, 5, 5, k) (am_sz h' + 1) = (N, 5, 5, k) := if_pos ⟨rfl, by omega⟩
  have ln1 : ∀ q, am_sz h' < q → (lbA L' h' (am_sz h' + 1) (N, 5, 5, k) q).1 = 0 ∨ (lbA L' h' (am_sz h' + 1) (N, 5, 5, k) q).1 = N := lbA_n (h' := h') x3
  generalize lbA L' h' (am_sz h' + 1) (N, 5, 5, k) = L1 at le1 ok1 lq ln1
  have nit : ∀ q t g c i, nd h' L' q t N g c i → q ≠ (am_sz h + 4) := fun q t g c i n e => by
    have := n.2.2.2
    rw [e] at this
    rw [this] at lit
    exact N0 lit
  have nz3 : (am_sz h + 3) ≠ (am_sz h + 4) := by omega
  have nA : am_fr h' 194 (am_sz h + 3) ≠ (am_sz h + 4) := fun e => by
    have a := x10.1.1.2.1
    by_cases c : 0 < am_ln h' (am_fr h' 194 (am_sz h + 3))
    · have l := x10.2.2.2.1 c
      rw [e] at l
      rw [l] at lit
      exact N0 lit
    · have e2 := x10.1.2.2.1 (by have := x10.1.1.2.2.1; omega)
      have e4 : am_cs h' 0 = am_cs h 0 := congrFun x1.2.2.1 0
      rw [e4] at e2
      omega
  have rl1 := rL_fx fJ le1 (Int.le_refl i) x10 nz3 nA
  have r1 := rl1.1
  have rn := r1.2.2.2.2.1
  have nAz : am_fr h' 194 (am_sz h + 3) ≤ am_sz h' := x10.1.1.2.2.2.2.2
  have lnA : am_ln hJ (am_fr h' 194 (am_sz h + 3)) = am_ln h' (am_fr h' 194 (am_sz h + 3)) := (fJ.2.2.2 _ nAz).2.1
  have kd : ∀ q, (q = (am_sz h + 3) ∨ (q = am_fr hJ 194 (am_sz h + 3) ∧ am_fi hJ 195 (am_sz h + 3) < am_ln hJ (am_fr hJ 194 (am_sz h + 3)))) → L1 q = (N, 5, 3, k) ∨ L1 q = (N, 5, 4, k) := fun q z => by
    rcases z with z | z
    · rw [z]
      exact Or.inl r1.2.2.1
    · rw [z.1]
      exact Or.inr (r1.2.2.2.1 (by have := r1.1.1.2.2.1; omega))
  have keep : ∀ q t c, nd hJ L1 q t N 5 c k → c ≠ 3 → c ≠ 4 → ¬ (q = (am_sz h + 3) ∨ (q = am_fr hJ 194 (am_sz h + 3) ∧ am_fi hJ 195 (am_sz h + 3) < am_ln hJ (am_fr hJ 194 (am_sz h + 3)))) := fun q t c n c3 c4 z => by
    have e := n.2.2.2
    rcases kd q z with y | y
    · rw [y] at e
      injection e with _ e
      injection e with _ e
      injection e with e _
      exact c3 e.symm
    · rw [y] at e
      injection e with _ e
      injection e with _ e
      injection e with e _
      exact c4 e.symm
  obtain ⟨le2, ok2, rl2⟩ := rL_add ok1 r1 f2 xm e5 e3 hA hg
  have ln2 : ∀ q, am_sz hJ < q → (lbA L1 hJ (am_fr h'' 194 (am_sz h + 3)) (N, 5, 3 + 1, k) q).1 = 0 ∨ (lbA L1 hJ (am_fr h'' 194 (am_sz h + 3)) (N, 5, 3 + 1, k) q).1 = N := lbA_n (h' := h'') ok1
  generalize lbA L1 hJ (am_fr h'' 194 (am_sz h + 3)) (N, 5, 3 + 1, k) = L2 at le2 ok2 rl2 ln2
  have leJ : leL h' L' L2 := fun q hq => (le2 q (by omega)).trans (le1 q hq)
  have n1 := nd_fx fJ le1 x5 (nit _ _ _ _ _ x5)
  have n2 := nd_fx f2 le2 n1.1 (keep _ _ _ n1.1 (by decide) (by decide))
  have m1 := nd_fx fJ le1 x7 (nit _ _ _ _ _ x7)
  have m2 := nd_fx f2 le2 m1.1 (keep _ _ _ m1.1 (by decide) (by decide))
  have jb : ∀ j c, rJ hJ L1 N S k j c → rJ h'' L2 N S k j c := fun j c y => rJ_fx f2 le2 (fun _ _ _ => rfl) rfl y (keep _ _ _ y.1 (by decide) (by decide))
  have jn : rJ hJ L1 N S k i (am_sz h' + 1) := ⟨⟨tJ, by omega, by omega, lq⟩, v1, v2, v3, v4⟩
  have eo : ∀ j, 0 ≤ j → j < i → am_ar h'' (am_fr h'' 194 (am_sz h + 3)) j = am_ar h' (am_fr h' 194 (am_sz h + 3)) j := fun j a b => by
    rw [el j a (by omega), rl1.2.1, rl1.2.2]
  have ei : am_ar h'' (am_fr h'' 194 (am_sz h + 3)) i = am_sz h' + 1 := by
    rw [← rn]
    exact en
  rw [rl1.2.1, lnA] at hc hu
  refine ⟨L2, ⟨?_, fun q hq => (leJ q (Nat.le_trans hq x1.1)).trans (x2 q hq), ok2, fun q hq => ?_, n2.1, ⟨?_, ?_, ?_, ?_⟩, m2.1, ?_, fun c a b => ?_, rl2, fun j a b => ?_, fun a b a0 ab b0 => ?_, ?_, by omega, by omega, fun c => ?_⟩, leJ⟩
  · refine fx_trans2 (fx_trans2 x1 fJ (fun q hq e => absurd hq (by omega))) f2 (fun q hq e => ?_)
    rcases e with e | e
    · omega
    · have a := e.1
      have b := e.2
      rw [rl1.2.1] at a b
      rw [lnA] at b
      have := x16 (by have := r1.1.1.2.2.1; omega)
      omega
  · by_cases c : q ≤ am_sz hJ
    · rw [le2 q c]
      by_cases c2 : q ≤ am_sz h'
      · rw [le1 q c2]
        exact x4 q hq
      · exact ln1 q (by omega)
    · exact ln2 q (by omega)
  · rw [n2.2.2.2.1, n1.2.2.2.1]
    exact x6.1
  · rw [n2.2.2.2.1, n1.2.2.2.1]
    exact x6.2.1
  · rw [n2.2.2.1, n1.2.2.1]
    exact x6.2.2.1
  · rw [n2.2.2.1, n1.2.2.1]
    exact x6.2.2.2
  · rw [m2.2.1, m1.2.1]
    exact x8
  · rw [m2.2.2.2.2.1, m1.2.2.2.2.1]
    exact x9 c a b
  · by_cases e : j = i
    · rw [e, ei]
      exact jb i _ jn
    · have y := x11 j a (by omega)
      rw [eo j a (by omega)]
      exact jb j _ (rJ_fx fJ le1 (fun _ _ _ => rfl) rfl y (nit _ _ _ _ _ y.1))
  · by_cases e : b = i
    · rw [e, ei, eo a a0 (by omega)]
      have y := (x11 a a0 (by omega)).1.2.1
      omega
    · rw [eo a a0 (by omega), eo b (by omega) (by omega)]
      exact x12 a b a0 ab (by omega)
  · omega
  · rcases hA with a | a
    · have b : am_ln h'' (am_fr hJ 194 (am_sz h + 3)) = am_ln hJ (am_fr hJ 194 (am_sz h + 3)) := (f2.2.2.2 _ r1.1.1.2.2.2.2.2).2.1
      rw [a] at c ⊢
      rw [b, rl1.2.1, lnA] at c
      rw [rl1.2.1]
      exact x16 c
    · have := fJ.1
      have := x1.1
      omega
section
variable {K : am_K} {h : am_H}
theorem x_mcopy {L : am_Lb} {N Ns m : Nat} {S : am_G} {k B : Int} {D : Nat} (hD : 25 ≤ D) (N0 : N ≠ 0) (ok : okLb h L) (cs : (am_ty h (am_cs h 0) = 134 ∧ am_cs h 0 ≤ am_sz h ∧ am_ln h (am_cs h 0) = 0)) (mc : rMc h L Ns S k m B) (h28 : S 5 k 28 = 0 ∨ S 5 k 28 = 1) (h29 : 0 ≤ (S 5 k 29) ∧ (S 5 k 29) ≤ 30) (h36 : ∀ i, 0 ≤ i → i < (S 5 k 29) → S 5 k (36 + 5 * i) = 0 ∨ S 5 k (36 + 5 * i) = 1) (H : ∀ h' L', fx (fun _ => False) h h' → leL h L L' → okLb h' L' → rMc h' L' N S k (am_sz h + 1) 40 → (∀ q, am_sz h < q → (L' q).1 = 0 ∨ (L' q).1 = N) → am_sz h' ≤ am_sz h + 64 → am_us h' ≤ am_us h + 400 → K (.inl (some (.inr (.inl ((am_sz h + 1)))))) h') : am_ev am_prog D 203 [.inr (.inl m)] h K := by
  obtain ⟨g1, g2, g3, g4, g5, g6, g7, g8, g9, rl, g11, g12⟩ := mc
  have r5 := rl.2.2.2.2.1
  obtain ⟨d, rfl⟩ : ∃ d, D = d + 13 := ⟨D - 13, by omega⟩
  refine am_en p_X22_copy rfl rfl ?_
  refine v_X22_copy_0 ⟨⟨g1.2.1, g1.1⟩, ⟨g2.2.1, Or.inl g2.1, by omega⟩, by rw [g6]; exact h28, ⟨rl.1.1.2.2.2.2.1, rl.1.1.1⟩, ?_⟩
  rw [g5, g6]
  show am_ev am_prog (d + 12) 104 [.inr (.inl (am_fr h 147 m))] (mC10 h (S 5 k 27) (S 5 k 28) (am_cpy (am_ai h (am_fr h 144 m)) (fun _ => 0) 0 0 27)) _
  have fM := mC_fx (h := h) (a := S 5 k 27) (b := S 5 k 28) (g := am_cpy (am_ai h (am_fr h 144 m)) (fun _ => 0) 0 0 27)
  have t1 := mC_t1 (h := h) (a := S 5 k 27) (b := S 5 k 28) (g := am_cpy (am_ai h (am_fr h 144 m)) (fun _ => 0) 0 0 27)
  have t2 := mC_t2 (h := h) (a := S 5 k 27) (b := S 5 k 28) (g := am_cpy (am_ai h (am_fr h 144 m)) (fun _ => 0) 0 0 27)
  have t3 := mC_t3 (h := h) (a := S 5 k 27) (b := S 5 k 28) (g := am_cpy (am_ai h (am_fr h 144 m)) (fun _ => 0) 0 0 27)
  have n2 := mC_n2 (h := h) (a := S 5 k 27) (b := S 5 k 28) (g := am_cpy (am_ai h (am_fr h 144 m)) (fun _ => 0) 0 0 27)
  have q144 := mC_r144 (h := h) (a := S 5 k 27) (b := S 5 k 28) (g := am_cpy (am_ai h (am_fr h 144 m)) (fun _ => 0) 0 0 27)
  have q147 := mC_r147 (h := h) (a := S 5 k 27) (b := S 5 k 28) (g := am_cpy (am_ai h (am_fr h 144 m)) (fun _ => 0) 0 0 27)
  have i145 := mC_i145 (h := h) (a := S 5 k 27) (b := S 5 k 28) (g := am_cpy (am_ai h (am_fr h 144 m)) (fun _ => 0) 0 0 27)
  have i146 := mC_i146 (h := h) (a := S 5 k 27) (b := S 5 k 28) (g := am_cpy (am_ai h (am_fr h 144 m)) (fun _ => 0) 0 0 27)
  have a2 := mC_a2 (h := h) (a := S 5 k 27) (b := S 5 k 28) (g := am_cpy (am_ai h (am_fr h 144 m)) (fun _ => 0) 0 0 27)
  have q194 := mC_r194 (h := h) (a := S 5 k 27) (b := S 5 k 28) (g := am_cpy (am_ai h (am_fr h 144 m)) (fun _ => 0) 0 0 27)
  have i193 := mC_i193 (h := h) (a := S 5 k 27) (b := S 5 k 28) (g := am_cpy (am_ai h (am_fr h 144 m)) (fun _ => 0) 0 0 27)
  have i195 := mC_i195 (h := h) (a := S 5 k 27) (b := S 5 k 28) (g := am_cpy (am_ai h (am_fr h 144 m)) (fun _ => 0) 0 0 27)
  have sM : am_sz (mC10 h (S 5 k 27) (S 5 k 28) (am_cpy (am_ai h (am_fr h 144 m)) (fun _ => 0) 0 0 27)) = am_sz h + 3 := rfl
  have uM : am_us (mC10 h (S 5 k 27) (S 5 k 28) (am_cpy (am_ai h (am_fr h 144 m)) (fun _ => 0) 0 0 27)) = am_us h + 37 := rfl
  generalize mC10 h (S 5 k 27) (S 5 k 28) (am_cpy (am_ai h (am_fr h 144 m)) (fun _ => 0) 0 0 27) = hM at *
  have kQ := fM.2.2.2 (am_fr h 147 m) rl.1.1.2.2.2.2.1
  refine c_iterator (d := d + 6) (kQ.1.trans rl.1.1.1) (Nat.le_trans rl.1.1.2.2.2.2.1 fM.1) (am_av ?_)
  have fI : fx (fun _ => False) hM (itH hM (am_fr h 147 m) 0 (-1)) := it_fx
  have itI : itC (itH hM (am_fr h 147 m) 0 (-1)) (am_sz hM + 1) (am_fr h 147 m) 0 (am_fi hM 193 (am_fr h 147 m)) := ⟨it_ty, it_199, it_196, it_198⟩
  have sI : am_sz (itH hM (am_fr h 147 m) 0 (-1)) = am_sz hM + 1 := rfl
  have uI : am_us (itH hM (am_fr h 147 m) 0 (-1)) = am_us hM + 4 := rfl
  have ei : am_sz hM + 1 = (am_sz h + 4) := by omega
  rw [ei] at itI ⊢
  generalize itH hM (am_fr h 147 m) 0 (-1) = hI at *
  refine v_X22_copy_21 ?_
  have f0I : fx (fun _ => False) h hI := fx_trans fM fI
  -- the labels of the first cells
  have la1 : leL h L (lbA L h (am_sz h + 1) (N, 5, 1, k)) := fun q hq => if_neg (fun y => absurd y.2 (by omega))
  have o1I := fI.2.2.2 (am_sz h + 1) (by omega)
  have o2I := fI.2.2.2 (am_sz h + 2) (by omega)
  have o3I := fI.2.2.2 (am_sz h + 3) (by omega)
  have ty1 : am_ty hI (am_sz h + 1) = 21 := o1I.1.trans t1
  have ty2 : am_ty hI (am_sz h + 2) = 101 := o2I.1.trans t2
  have ty3 : am_ty hI (am_sz h + 3) = 31 := o3I.1.trans t3
  have okA : okLb hI (lbA L h (am_sz h + 1) (N, 5, 1, k)) := okLb_lb ok f0I ⟨by omega, by omega⟩ (by rw [ty1]; unfold imT; omega)
  have lbM : ∃ L1, leL h L L1 ∧ okLb hI L1 ∧ L1 (am_sz h + 1) = (N, 5, 1, k) ∧ L1 (am_sz h + 2) = (N, 5, 2, k) ∧ L1 (am_sz h + 3) = (N, 5, 3, k) ∧ (L1 (am_sz h + 4)).1 = 0 ∧ ∀ q, am_sz h < q → (L1 q).1 = 0 ∨ (L1 q).1 = N := by
    refine ⟨fun q => if q = (am_sz h + 1) then (N, 5, 1, k) else if q = (am_sz h + 2) then (N, 5, 2, k) else if q = (am_sz h + 3) then (N, 5, 3, k) else L q, fun q hq => ?_, ⟨?_, fun q hq im => ?_, fun q hq => ?_⟩, if_pos rfl, ?_, ?_, ?_, fun q hq => ?_⟩
    · show (if q = (am_sz h + 1) then _ else if q = (am_sz h + 2) then _ else if q = (am_sz h + 3) then _ else L q) = L q
      rw [if_neg (by omega), if_neg (by omega), if_neg (by omega)]
    · exact (okLb_fx f0I ok).1
    · show (if q = (am_sz h + 1) then (N, 5, 1, k) else if q = (am_sz h + 2) then (N, 5, 2, k) else if q = (am_sz h + 3) then (N, 5, 3, k) else L q).1 = 0
      unfold imT at im
      by_cases c1 : q = (am_sz h + 1)
      · rw [c1, ty1] at im
        omega
      · rw [if_neg c1]
        by_cases c2 : q = (am_sz h + 2)
        · rw [c2, ty2] at im
          omega
        · rw [if_neg c2]
          by_cases c3 : q = (am_sz h + 3)
          · rw [c3, ty3] at im
            omega
          · rw [if_neg c3]
            exact (okLb_fx f0I ok).2.1 q hq im
    · show (if q = (am_sz h + 1) then (N, 5, 1, k) else if q = (am_sz h + 2) then (N, 5, 2, k) else if q = (am_sz h + 3) then (N, 5, 3, k) else L q).1 = 0
      rw [if_neg (by omega), if_neg (by omega), if_neg (by omega)]
      exact (okLb_fx f0I ok).2.2 q hq
    · show (if (am_sz h + 2) = (am_sz h + 1) then (N, 5, 1, k) else if (am_sz h + 2) = (am_sz h + 2) then (N, 5, 2, k) else _) = _
      rw [if_neg (by omega), if_pos rfl]
    · show (if (am_sz h + 3) = (am_sz h + 1) then (N, 5, 1, k) else if (am_sz h + 3) = (am_sz h + 2) then (N, 5, 2, k) else if (am_sz h + 3) = (am_sz h + 3) then (N, 5, 3, k) else _) = _
      rw [if_neg (by omega), if_neg (by omega), if_pos rfl]
    · show (if (am_sz h + 4) = (am_sz h + 1) then (N, 5, 1, k) else if (am_sz h + 4) = (am_sz h + 2) then (N, 5, 2, k) else if (am_sz h + 4) = (am_sz h + 3) then (N, 5, 3, k) else L (am_sz h + 4)).1 = 0
      rw [if_neg (by omega), if_neg (by omega), if_neg (by omega)]
      exact ok.2.2 _ (by omega)
    · show (if q = (am_sz h + 1) then (N, 5, 1, k) else if q = (am_sz h + 2) then (N, 5, 2, k) else if q = (am_sz h + 3) then (N, 5, 3, k) else L q).1 = 0 ∨ (if q = (am_sz h + 1) then (N, 5, 1, k) else if q = (am_sz h + 2) then (N, 5, 2, k) else if q = (am_sz h + 3) then (N, 5, 3, k) else L q).1 = N
      by_cases c1 : q = (am_sz h + 1)
      · rw [if_pos c1]
        exact Or.inr rfl
      · rw [if_neg c1]
        by_cases c2 : q = (am_sz h + 2)
        · rw [if_pos c2]
          exact Or.inr rfl
        · rw [if_neg c2]
          by_cases c3 : q = (am_sz h + 3)
          · rw [if_pos c3]
            exact Or.inr rfl
          · rw [if_neg c3]
            exact Or.inl (ok.2.2 q hq)
  obtain ⟨L1, lm1, lm2, lm3, lm4, lm5, lm6, lm7⟩ := lbM
  have w1 := o1I.2.2 (fun e => e)
  have w2 := o2I.2.2 (fun e => e)
  have w3 := o3I.2.2 (fun e => e)
  have csI := cs_fx f0I cs
  have mi : MI h L N S k 0 hI L1 := by
    refine ⟨f0I, lm1, lm2, lm7, ⟨ty1, by omega, by omega, lm3⟩, ⟨?_, ?_, ?_, ?_⟩, ⟨ty2, by omega, by omega, lm4⟩, ?_, fun c a b => ?_, ?_, fun j a b => absurd b (by omega), fun a b c e g => absurd g (by omega), ?_, by omega, ?_, ?_⟩
    · rw [w1.2.1]
      exact q144
    · rw [w1.2.1]
      exact q147
    · rw [w1.1]
      exact i145
    · rw [w1.1]
      exact i146
    · exact o2I.2.1.trans n2
    · rw [w2.2.2.1, a2]
      unfold am_cpy
      rw [if_pos (by omega)]
      have e : (0 + (c - 0) : Int) = c := by omega
      rw [e]
      exact g4 c a b
    · exact rL_0 ty3 (by omega) (by omega) lm5 csI ((w3.2.1 194).trans (q194.trans (congrFun f0I.2.2.1 0).symm)) ((w3.1 195).trans i195) ((w3.1 193).trans i193) (Int.le_refl _)
    · left
      rw [w3.2.1 194, q194, ← congrFun f0I.2.2.1 0, csI.2.2]
      decide
    · rw [w3.2.1 194, q194, ← congrFun f0I.2.2.1 0, csI.2.2]
      omega
    · rw [w3.2.1 194, q194, ← congrFun f0I.2.2.1 0, csI.2.2]
      intro c
      exact absurd c (by decide)
  have it0 : itC hI (am_sz h + 4) (am_fr h 147 m) 0 (am_fi h 193 (am_fr h 147 m)) := by
    have e : am_fi hM 193 (am_fr h 147 m) = am_fi h 193 (am_fr h 147 m) := (kQ.2.2 (fun z => z)).1 193
    rw [e] at itI
    exact itI
  have loop : ∀ i, 0 ≤ i → i ≤ (S 5 k 29) → ∀ h' L', MI h L N S k i h' L' → (L' (am_sz h + 4)).1 = 0 → (am_sz h + 4) ≤ am_sz h' → itC h' (am_sz h + 4) (am_fr h 147 m) i (am_fi h 193 (am_fr h 147 m)) → ∀ o3, am_W m_X22_copy (am_ev am_prog (d + 12)) K 22 [some (.inr (.inl (m))), some (.inr (.inl ((am_sz h + 1)))), some (.inr (.inl ((am_sz h + 4)))), o3] [] h' := by
    refine lp_z ?_ ?_
    · intro i i0 i1 hL h' L' mi lit itz ic o3
      have mi' := mi
      obtain ⟨x1, x2, x3, x4, x5, x6, x7, x8, x9, x10, x11, x12, x13, x14, x15, x16⟩ := mi
      obtain ⟨c1, c2, c3, c4⟩ := ic
      have kq := x1.2.2.2 (am_fr h 147 m) rl.1.1.2.2.2.2.1
      have kq' := kq.2.2 (fun z => z)
      have xl := (xL_fx x1 (fun z => z) rl.1.1).1
      have ea : am_fr h' 194 (am_fr h 147 m) = am_fr h 194 (am_fr h 147 m) := kq'.2.1 194
      have ka := x1.2.2.2 _ rl.1.1.2.2.2.2.2
      have er : am_ar h' (am_fr h 194 (am_fr h 147 m)) = am_ar h (am_fr h 194 (am_fr h 147 m)) := (ka.2.2 (fun z => z)).2.2.2
      have jo := g11 i i0 i1
      have kj := x1.2.2.2 _ jo.1.2.1
      have kj' := kj.2.2 (fun z => z)
      refine v_X22_copy_22 ?_
      rw [c2, c3, kq'.1 195, r5, ea, er, kj.1, kj'.1 151, kj'.1 152, kj'.1 153, kj'.1 154, jo.1.1, jo.2.1, jo.2.2.1, jo.2.2.2.1, jo.2.2.2.2, x6.2.1]
      have kJ := h36 i i0 i1
      refine ⟨c1, kq.1.trans rl.1.1.1, fun e => absurd e (by omega), fun _ => ⟨⟨c1, by rw [c2]; exact xl, by rw [c2, kq'.1 193]; exact c4.symm, by rw [c2, c3, kq'.1 195, r5]; omega⟩, ⟨Or.inr rfl, x5.1⟩, rfl, Nat.le_trans jo.1.2.1 x1.1, kJ, ⟨x10.1.1.2.2.2.2.1, x10.1.1.1⟩, ?_⟩⟩
      -- the job's cell
      have fJ : fx (fun c => c = (am_sz h + 4)) h' (am_sfi (am_sfi (am_sfi (am_sfi (am_new (am_sfi (am_sfi h' 196 (am_sz h + 4) (i + 1)) 197 (am_sz h + 4) i) 22 4) 151 (am_sz h' + 1) (S 5 k (33 + 5 * i))) 153 (am_sz h' + 1) (S 5 k (34 + 5 * i))) 154 (am_sz h' + 1) (bhd S k i)) 152 (am_sz h' + 1) (S 5 k (36 + 5 * i))) := fx_sfi (fx_sfi (fx_sfi (fx_sfi (fx_new (fx_sfi (fx_sfi fx_refl (Or.inr rfl)) (Or.inr rfl))) (Or.inl (by omega))) (Or.inl (by omega))) (Or.inl (by omega))) (Or.inl (by omega))
      have v1 : am_fi (am_sfi (am_sfi (am_sfi (am_sfi (am_new (am_sfi (am_sfi h' 196 (am_sz h + 4) (i + 1)) 197 (am_sz h + 4) i) 22 4) 151 (am_sz h' + 1) (S 5 k (33 + 5 * i))) 153 (am_sz h' + 1) (S 5 k (34 + 5 * i))) 154 (am_sz h' + 1) (bhd S k i)) 152 (am_sz h' + 1) (S 5 k (36 + 5 * i))) 151 (am_sz h' + 1) = S 5 k (33 + 5 * i) := (x_fif (by decide)).trans ((x_fif (by decide)).trans ((x_fif (by decide)).trans x_fie))
      have v3 : am_fi (am_sfi (am_sfi (am_sfi (am_sfi (am_new (am_sfi (am_sfi h' 196 (am_sz h + 4) (i + 1)) 197 (am_sz h + 4) i) 22 4) 151 (am_sz h' + 1) (S 5 k (33 + 5 * i))) 153 (am_sz h' + 1) (S 5 k (34 + 5 * i))) 154 (am_sz h' + 1) (bhd S k i)) 152 (am_sz h' + 1) (S 5 k (36 + 5 * i))) 153 (am_sz h' + 1) = S 5 k (34 + 5 * i) := (x_fif (by decide)).trans ((x_fif (by decide)).trans x_fie)
      have v4 : am_fi (am_sfi (am_sfi (am_sfi (am_sfi (am_new (am_sfi (am_sfi h' 196 (am_sz h + 4) (i + 1)) 197 (am_sz h + 4) i) 22 4) 151 (am_sz h' + 1) (S 5 k (33 + 5 * i))) 153 (am_sz h' + 1) (S 5 k (34 + 5 * i))) 154 (am_sz h' + 1) (bhd S k i)) 152 (am_sz h' + 1) (S 5 k (36 + 5 * i))) 154 (am_sz h' + 1) = bhd S k i := (x_fif (by decide)).trans x_fie
      have v2 : am_fi (am_sfi (am_sfi (am_sfi (am_sfi (am_new (am_sfi (am_sfi h' 196 (am_sz h + 4) (i + 1)) 197 (am_sz h + 4) i) 22 4) 151 (am_sz h' + 1) (S 5 k (33 + 5 * i))) 153 (am_sz h' + 1) (S 5 k (34 + 5 * i))) 154 (am_sz h' + 1) (bhd S k i)) 152 (am_sz h' + 1) (S 5 k (36 + 5 * i))) 152 (am_sz h' + 1) = S 5 k (36 + 5 * i) := x_fie
      have tJ : am_ty (am_sfi (am_sfi (am_sfi (am_sfi (am_new (am_sfi (am_sfi h' 196 (am_sz h + 4) (i + 1)) 197 (am_sz h + 4) i) 22 4) 151 (am_sz h' + 1) (S 5 k (33 + 5 * i))) 153 (am_sz h' + 1) (S 5 k (34 + 5 * i))) 154 (am_sz h' + 1) (bhd S k i)) 152 (am_sz h' + 1) (S 5 k (36 + 5 * i))) (am_sz h' + 1) = 22 := x_tyn0 (h := am_sfi (am_sfi h' 196 (am_sz h + 4) (i + 1)) 197 (am_sz h + 4) i) (t := 22) (n := 4) rfl
      have zJ : am_sz (am_sfi (am_sfi (am_sfi (am_sfi (am_new (am_sfi (am_sfi h' 196 (am_sz h + 4) (i + 1)) 197 (am_sz h + 4) i) 22 4) 151 (am_sz h' + 1) (S 5 k (33 + 5 * i))) 153 (am_sz h' + 1) (S 5 k (34 + 5 * i))) 154 (am_sz h' + 1) (bhd S k i)) 152 (am_sz h' + 1) (S 5 k (36 + 5 * i))) = am_sz h' + 1 := rfl
      have uJ : am_us (am_sfi (am_sfi (am_sfi (am_sfi (am_new (am_sfi (am_sfi h' 196 (am_sz h + 4) (i + 1)) 197 (am_sz h + 4) i) 22 4) 151 (am_sz h' + 1) (S 5 k (33 + 5 * i))) 153 (am_sz h' + 1) (S 5 k (34 + 5 * i))) 154 (am_sz h' + 1) (bhd S k i)) 152 (am_sz h' + 1) (S 5 k (36 + 5 * i))) = am_us h' + 4 := rfl
      have qJ : ∀ f, am_fr (am_sfi (am_sfi (am_sfi (am_sfi (am_new (am_sfi (am_sfi h' 196 (am_sz h + 4) (i + 1)) 197 (am_sz h + 4) i) 22 4) 151 (am_sz h' + 1) (S 5 k (33 + 5 * i))) 153 (am_sz h' + 1) (S 5 k (34 + 5 * i))) 154 (am_sz h' + 1) (bhd S k i)) 152 (am_sz h' + 1) (S 5 k (36 + 5 * i))) f (am_sz h + 4) = am_fr h' f (am_sz h + 4) := fun f => x_frn (h := am_sfi (am_sfi h' 196 (am_sz h + 4) (i + 1)) 197 (am_sz h + 4) i) (t := 22) (n := 4) itz
      have pJ : ∀ f, am_fi (am_sfi (am_sfi (am_sfi (am_sfi (am_new (am_sfi (am_sfi h' 196 (am_sz h + 4) (i + 1)) 197 (am_sz h + 4) i) 22 4) 151 (am_sz h' + 1) (S 5 k (33 + 5 * i))) 153 (am_sz h' + 1) (S 5 k (34 + 5 * i))) 154 (am_sz h' + 1) (bhd S k i)) 152 (am_sz h' + 1) (S 5 k (36 + 5 * i))) f (am_sz h + 4) = am_fi (am_sfi (am_sfi h' 196 (am_sz h + 4) (i + 1)) 197 (am_sz h + 4) i) f (am_sz h + 4) := fun f => (x_fiq (by omega)).trans ((x_fiq (by omega)).trans ((x_fiq (by omega)).trans ((x_fiq (by omega)).trans (x_fin itz))))
      have ic : itC (am_sfi (am_sfi (am_sfi (am_sfi (am_new (am_sfi (am_sfi h' 196 (am_sz h + 4) (i + 1)) 197 (am_sz h + 4) i) 22 4) 151 (am_sz h' + 1) (S 5 k (33 + 5 * i))) 153 (am_sz h' + 1) (S 5 k (34 + 5 * i))) 154 (am_sz h' + 1) (bhd S k i)) 152 (am_sz h' + 1) (S 5 k (36 + 5 * i))) (am_sz h + 4) (am_fr h 147 m) (i + 1) (am_fi h 193 (am_fr h 147 m)) := by
        refine ⟨(fJ.2.2.2 (am_sz h + 4) itz).1.trans c1, (qJ 199).trans c2, ?_, ?_⟩
        · rw [pJ]
          exact (x_fif (by decide)).trans x_fie
        · rw [pJ]
          exact (x_fif (by decide)).trans ((x_fif (by decide)).trans c4)
      generalize am_sfi (am_sfi (am_sfi (am_sfi (am_new (am_sfi (am_sfi h' 196 (am_sz h + 4) (i + 1)) 197 (am_sz h + 4) i) 22 4) 151 (am_sz h' + 1) (S 5 k (33 + 5 * i))) 153 (am_sz h' + 1) (S 5 k (34 + 5 * i))) 154 (am_sz h' + 1) (bhd S k i)) 152 (am_sz h' + 1) (S 5 k (36 + 5 * i)) = hJ at *
      have nA : am_fr h' 194 (am_sz h + 3) ≠ (am_sz h + 4) := fun e => by
        by_cases c : 0 < am_ln h' (am_fr h' 194 (am_sz h + 3))
        · have l := x10.2.2.2.1 c
          rw [e] at l
          rw [l] at lit
          exact N0 lit
        · have e2 := x10.1.2.2.1 (by have := x10.1.1.2.2.1; omega)
          have e4 : am_cs h' 0 = am_cs h 0 := congrFun x1.2.2.1 0
          have := cs.2.1
          rw [e4] at e2
          omega
      have rlJ := rL_fx (L := L') (L' := L') fJ leL_refl (Int.le_refl i) x10 (by omega) nA
      have rJ1 := rlJ.1
      refine c_add2 (d := d + 3) rJ1.1 (fun e => by rw [← e, rJ1.2.2.2.2.1]; omega) ⟨by omega, by rw [tJ]; simp [am_tin]⟩ (by omega) (by have := rJ1.2.2.2.2.2; omega) (fun h'' f2 xm e5 e3 el en hA _ hu hg hs hc => am_av (v_X22_copy_34 ?_))
      obtain ⟨L'', mi2, le2⟩ := MI_s N0 cs.2.1 mi' ⟨i0, by omega⟩ lit fJ zJ uJ tJ v1 v2 v3 v4 f2 xm e5 e3 el en hA hu hg hs hc
      have nX : ¬ ((am_sz h + 4) = (am_sz h + 3) ∨ ((am_sz h + 4) = am_fr hJ 194 (am_sz h + 3) ∧ am_fi hJ 195 (am_sz h + 3) < am_ln hJ (am_fr hJ 194 (am_sz h + 3)))) := fun e => by
        rcases e with e | e
        · omega
        · rw [rlJ.2.1] at e
          exact nA e.1.symm
      have ki := f2.2.2.2 (am_sz h + 4) (by omega)
      have ki' := ki.2.2 nX
      obtain ⟨d1, d2, d3, d4⟩ := ic
      exact hL h'' L'' mi2 (by rw [le2 _ itz]; exact lit) (by have := f2.1; omega) ⟨ki.1.trans d1, (ki'.2.1 199).trans d2, (ki'.1 196).trans d3, (ki'.1 198).trans d4⟩ _
    · intro h' L' mi lit itz ic o3
      obtain ⟨x1, x2, x3, x4, x5, x6, x7, x8, x9, x10, x11, x12, x13, x14, x15, x16⟩ := mi
      obtain ⟨c1, c2, c3, c4⟩ := ic
      have kq := x1.2.2.2 (am_fr h 147 m) rl.1.1.2.2.2.2.1
      have kq' := kq.2.2 (fun z => z)
      have km := x1.2.2.2 m g1.2.1
      have km' := km.2.2 (fun z => z)
      refine v_X22_copy_22 ?_
      rw [c2, c3, kq'.1 195, r5, km'.1 148, km'.1 149, km'.1 150, g7, g8, g9]
      refine ⟨c1, kq.1.trans rl.1.1.1, fun _ => ⟨⟨km.1.trans g1.1, x5.1⟩, ?_⟩, fun e => absurd rfl e⟩
      have fF : fx (fun q => q = (am_sz h + 1)) h' (am_sfi (am_sfi (am_sfi h' 148 (am_sz h + 1) (S 5 k 30)) 149 (am_sz h + 1) (S 5 k 31)) 150 (am_sz h + 1) (S 5 k 32)) := fx_sfi (fx_sfi (fx_sfi fx_refl (Or.inr rfl)) (Or.inr rfl)) (Or.inr rfl)
      have i148 : am_fi (am_sfi (am_sfi (am_sfi h' 148 (am_sz h + 1) (S 5 k 30)) 149 (am_sz h + 1) (S 5 k 31)) 150 (am_sz h + 1) (S 5 k 32)) 148 (am_sz h + 1) = S 5 k 30 := (x_fif (by decide)).trans ((x_fif (by decide)).trans x_fie)
      have i149 : am_fi (am_sfi (am_sfi (am_sfi h' 148 (am_sz h + 1) (S 5 k 30)) 149 (am_sz h + 1) (S 5 k 31)) 150 (am_sz h + 1) (S 5 k 32)) 149 (am_sz h + 1) = S 5 k 31 := (x_fif (by decide)).trans x_fie
      have i150 : am_fi (am_sfi (am_sfi (am_sfi h' 148 (am_sz h + 1) (S 5 k 30)) 149 (am_sz h + 1) (S 5 k 31)) 150 (am_sz h + 1) (S 5 k 32)) 150 (am_sz h + 1) = S 5 k 32 := x_fie
      have iO : ∀ f, f < 148 → am_fi (am_sfi (am_sfi (am_sfi h' 148 (am_sz h + 1) (S 5 k 30)) 149 (am_sz h + 1) (S 5 k 31)) 150 (am_sz h + 1) (S 5 k 32)) f (am_sz h + 1) = am_fi h' f (am_sz h + 1) := fun f hf => (x_fif (by omega)).trans ((x_fif (by omega)).trans (x_fif (by omega)))
      have rO : ∀ f, am_fr (am_sfi (am_sfi (am_sfi h' 148 (am_sz h + 1) (S 5 k 30)) 149 (am_sz h + 1) (S 5 k 31)) 150 (am_sz h + 1) (S 5 k 32)) f (am_sz h + 1) = am_fr h' f (am_sz h + 1) := fun f => rfl
      have zF : am_sz (am_sfi (am_sfi (am_sfi h' 148 (am_sz h + 1) (S 5 k 30)) 149 (am_sz h + 1) (S 5 k 31)) 150 (am_sz h + 1) (S 5 k 32)) = am_sz h' := rfl
      have uF : am_us (am_sfi (am_sfi (am_sfi h' 148 (am_sz h + 1) (S 5 k 30)) 149 (am_sz h + 1) (S 5 k 31)) 150 (am_sz h + 1) (S 5 k 32)) = am_us h' := rfl
      generalize am_sfi (am_sfi (am_sfi h' 148 (am_sz h + 1) (S 5 k 30)) 149 (am_sz h + 1) (S 5 k 31)) 150 (am_sz h + 1) (S 5 k 32) = hF at *
      have w2 := nd_fx fF (leL_refl (L := L')) x7 (by show ¬ ((am_sz h + 2) = (am_sz h + 1)); omega)
      have nA : am_fr h' 194 (am_sz h + 3) ≠ (am_sz h + 1) := fun e => by
        have := x10.1.1.2.1
        rw [e, x5.1] at this
        omega
      have rF := rL_fx (L := L') (L' := L') fF leL_refl (show (S 5 k 29) ≤ 40 by omega) x10 (by omega) nA
      have t1' := fF.2.2.2 (am_sz h + 1) (by omega)
      refine H hF L' (fx_trans2 x1 fF (fun q hq e => absurd hq (by omega))) x2 (okLb_fx fF x3) ⟨⟨t1'.1.trans x5.1, by omega, by omega, x5.2.2.2⟩, ?_, ?_, ?_, ?_, ?_, i148, i149, i150, ?_, ?_, ?_⟩ x4 (by omega) (by omega)
      · rw [rO, x6.1]
        exact w2.1
      · rw [rO, x6.1]
        exact w2.2.1.trans x8
      · rw [rO, x6.1, w2.2.2.2.2.1]
        exact x9
      · rw [iO _ (by decide)]
        exact x6.2.2.1
      · rw [iO _ (by decide)]
        exact x6.2.2.2
      · rw [rO, x6.2.1]
        exact rF.1
      · rw [rO, x6.2.1, rF.2.1, rF.2.2]
        intro j a b
        have y := x11 j a b
        exact rJ_fx fF leL_refl (fun _ _ _ => rfl) rfl y (fun e => by
          have e2 := y.1.1
          rw [e, x5.1] at e2
          exact absurd e2 (by decide))
      · rw [rO, x6.2.1, rF.2.1, rF.2.2]
        exact x12
  exact loop 0 (by omega) h29.1 hI L1 mi lm6 (by omega) it0 _
end
