set_option maxRecDepth 100000
/-! a story comes: the component -/
theorem Nt_x {X : Nat → Prop} {h h' : am_H} {L : am_Lb} {x P N : Nat} {S : am_G} {B : Int} (t : Nt h L x P N S B) (a : fx X h h') (hX : ∀ q, q ≤ am_sz h → X q → (L q).1 = x ∧ (L q).2.1 ≠ 1) : Nt h' L x P N S B := by
  obtain ⟨t1, t2, t3, t4, t5⟩ := t
  exact ⟨okLb_fx a t1, cs_fx a t2, rPap_fx a leL_refl (fun q hq z w => (hX q hq z).2 w.2) t3, Rep_fx (Int.le_refl _) a leL_refl t1 t2.1 (fun q hq z => by rw [(hX q hq z).1]; exact ⟨t5.2.1, t5.1⟩) t4, t5⟩
/-- what a call leaves that may change the room itself: the tape, the fault -/
def OutX (h : am_H) (L : am_Lb) (x N : Nat) (h' : am_H) (L' : am_Lb) (dz du : Nat) : Prop := fx (fun q => (L q).1 = N ∨ ((L q).1 = x ∧ ((L q).2.1 = 1 ∨ (L q).2.1 = 2)) ∨ q = x) h h' ∧ leL h L L' ∧ (am_sz h' ≤ am_sz h + dz ∧ am_us h' ≤ am_us h + du) ∧ (∀ q, am_sz h < q → (L' q).1 = 0 ∨ (L' q).1 = N ∨ (L' q).1 = x) ∧ (∀ f, am_fr h' f x = am_fr h f x) ∧ ∀ f, f ≠ 4 → f ≠ 5 → am_fi h' f x = am_fi h f x
/-- the tape -/
def TpX (h : am_H) (L : am_Lb) (x : Nat) (t : Int → Int) (n : Int) : Prop := am_fi h 4 x = n ∧ nd h L (am_fr h 3 x) 102 x 2 0 0 ∧ am_ln h (am_fr h 3 x) = 400 ∧ (0 ≤ n ∧ n ≤ 400) ∧ ∀ j, 0 ≤ j → j < n → am_ai h (am_fr h 3 x) j = t j
def XTF (h : am_H) (L : am_Lb) (x P N : Nat) (S : am_G) (B : Int) (K : am_K) (ty : Nat) (fl : Int) (dz du : Nat) : Prop := ∀ h' q, Nt h' L x P N S B → OutX h L x N h' L dz du → am_ty h' q = ty → am_fi h' 4 x = 0 → am_fi h' 5 x = fl → K (.inr q) h'
/-- answered; the states that it may then be told by are those of R -/
def XAG (h : am_H) (L : am_Lb) (x P N : Nat) (R : am_G → Prop) (B : Int) (K : am_K) (a : Int) (fl : Int) (dz du : Nat) : Prop := ∀ h' L', (∀ S', R S' → Nt h' L' x P N S' B) → OutX h L x N h' L' dz du → am_fi h' 4 x = 0 → am_fi h' 5 x = fl → K (.inl (some (.inl (a)))) h'
def XAF (h : am_H) (L : am_Lb) (x P N : Nat) (S' : am_G) (B : Int) (K : am_K) (a : Int) (fl : Int) (dz du : Nat) : Prop := ∀ h' L', Nt h' L' x P N S' B → OutX h L x N h' L' dz du → am_fi h' 4 x = 0 → am_fi h' 5 x = fl → K (.inl (some (.inl (a)))) h'
/-- rows of parts that are not there are fresh -/
def okZ (S : am_G) : Prop := ∀ p, 0 ≤ p → p < 100 → ¬ isP S p → S 3 p 2 = 0 ∧ S 3 p 3 = 0
theorem stR_P {t : Int → Int} {S S' : am_G} {f du : Int} {l : List am_Pt} (st : stR t S f du l S') (hF : okF S) (l5 : l.length ≤ 5) (s0 : 0 ≤ (S 0 0 1)) {p : Int} : isP S' p ↔ (isP S p ∨ (5 * (S 0 0 1) ≤ p ∧ p < 5 * (S 0 0 1) + l.length)) := by
  obtain ⟨q1, ⟨q2, q3⟩, ⟨q4, q5, q6, q7⟩, q8, q9⟩ := st
  unfold isP
  rw [q3]
  by_cases c : p / 5 = (S 0 0 1)
  · rw [c, q7]
    constructor
    · intro z
      right
      omega
    · intro z
      rcases z with z | z
      · omega
      · omega
  · rw [q4 2 (p / 5) c]
    constructor
    · intro z
      left
      omega
    · intro z
      rcases z with z | z
      · omega
      · omega
/-- the pieces that were read are a part's pieces -/
theorem arC_iPc {h0 h : am_H} {L : am_Lb} {A r : Nat} {t v : Int → Int} {x : am_Pt} (ac : arC h0 h A t r x.2) (rw' : rwP t v x.1 x.2) (o : okPt t x) (hL : ∀ q, am_sz h0 < q → (am_ty h q = 102 ∨ am_ty h q = 122) → (L q).1 = 0) : iPc h L r v := by
  obtain ⟨a1, a2, a3, a4⟩ := ac
  have v1 := rw'.2.1
  refine ⟨⟨a1, by rw [a3, v1], fun k k1 k2 => ?_, a2.2⟩, by omega, fun k k1 k2 => ?_⟩
  · rw [v1] at k2
    have ek : ((k.toNat : Nat) : Int) = k := by omega
    have p := a4 k.toNat (by omega)
    have q := rw'.2.2 k.toNat (by omega)
    have e := rwP_ew rw' o.2.1 o.2.2.1 k.toNat (by omega)
    rw [ek] at p q e
    refine ⟨p.1, p.2.2.1.trans e.symm, ⟨p.2.2.2.1.1, by rw [q.2.1]; exact p.2.2.2.1.2.1, fun i i1 i2 => ?_⟩, p.2.1.2⟩
    rw [q.2.1] at i2
    have w := q.2.2 i i1 i2
    have u := p.2.2.2.1.2.2 i i1 i2
    show am_ai h (am_fr h 189 (am_fr h 108 (am_ar h r k))) i = 97 + v (165 + 12 * k + i)
    rw [w]
    exact u.trans (by show t ((gP x.2 k.toNat).2.1 + i) = _; omega)
  · rw [v1] at k2
    have ek : ((k.toNat : Nat) : Int) = k := by omega
    have p := a4 k.toNat (by omega)
    rw [ek] at p
    exact hL _ p.2.2.2.2.1.1 p.2.2.2.1.1.2.1
/-- the night after a story -/
theorem Nt_story {h h3 : am_H} {L L3 : am_Lb} {x P N A : Nat} {S S' : am_G} {B f du : Int} {t : Int → Int} {l : List am_Pt} {h0 : am_H} (tt : Nt h L x P N S B) (hC : okC S) (hF : okF S) (hZ : okZ S) (hM : okM S) (hg : okg S) (s20 : (S 0 0 1) ≠ 20) (l5 : l.length ≤ 5) (st : stR t S f du l S') (a : fx (fun q => q = (am_fr h 20 N) ∨ q = N) h h3) (le : leL h L L3) (ok3 : okLb h3 L3) (hr : ∀ f, am_fr h3 f N = am_fr h f N) (f21 : am_fi h3 21 N = (S 0 0 1) + 1) (fo : ∀ f, f ≠ 21 → am_fi h3 f N = am_fi h f N) (oth : ∀ p, ¬ (5 * (S 0 0 1) ≤ p ∧ p < 5 * (S 0 0 1) + l.length) → am_ar h3 (am_fr h 20 N) p = am_ar h (am_fr h 20 N) p) (new : ∀ i : Nat, i < l.length → nd h3 L3 (am_ar h3 (am_fr h 20 N) (5 * (S 0 0 1) + ((i : Int)))) 9 N 3 1 (5 * (S 0 0 1) + (i : Int)) ∧ (am_fi h3 110 (am_ar h3 (am_fr h 20 N) (5 * (S 0 0 1) + ((i : Int)))) = 5 * (S 0 0 1) + (i : Int) ∧ am_fi h3 111 (am_ar h3 (am_fr h 20 N) (5 * (S 0 0 1) + ((i : Int)))) = f ∧ am_fi h3 112 (am_ar h3 (am_fr h 20 N) (5 * (S 0 0 1) + ((i : Int)))) = du ∧ am_fi h3 114 (am_ar h3 (am_fr h 20 N) (5 * (S 0 0 1) + ((i : Int)))) = (gD l i).1 ∧ am_fi h3 115 (am_ar h3 (am_fr h 20 N) (5 * (S 0 0 1) + ((i : Int)))) = 0) ∧ (am_fr h3 116 (am_ar h3 (am_fr h 20 N) (5 * (S 0 0 1) + ((i : Int)))) = 0 ∧ am_fr h3 117 (am_ar h3 (am_fr h 20 N) (5 * (S 0 0 1) + ((i : Int)))) = 0 ∧ am_fr h3 118 (am_ar h3 (am_fr h 20 N) (5 * (S 0 0 1) + ((i : Int)))) = 0) ∧ arC h0 h3 A t (am_fr h3 113 (am_ar h3 (am_fr h 20 N) (5 * (S 0 0 1) + ((i : Int))))) (gD l i).2) (hL : ∀ q, am_sz h0 < q → (am_ty h3 q = 102 ∨ am_ty h3 q = 122) → (L3 q).1 = 0) : Nt h3 L3 x P N S' B := by
  have t := tt
  obtain ⟨x1, x2, x3, x4, x5, x6, x7, x8, x9, x10⟩ := t.2.2.2.1
  have c1 := hC.2.1
  have c3 := hC.2.2.1
  have sp := fun p => stR_P (p := p) st hF l5 c1.1
  obtain ⟨q1, ⟨q2, q3⟩, ⟨q4, q5, q6, q7⟩, q8, q9⟩ := st
  have hX : ∀ q, q ≤ am_sz h → (q = (am_fr h 20 N) ∨ q = N) → (L q).1 = N ∧ ((L q).2.1 = 0 ∨ (L q).2.1 = 3) := fun q hq z => by
    rcases z with z | z
    · rw [z, x3.1.2.2.2]
      exact ⟨rfl, Or.inr rfl⟩
    · rw [z, x1.1.2.2.2]
      exact ⟨rfl, Or.inl rfl⟩
  have N0 := t.2.2.2.2.2.2
  have zf' : ∀ g, g ≠ 0 → g ≠ 3 → ∀ q, q ≤ am_sz h → (q = (am_fr h 20 N) ∨ q = N) → zf L N g q := fun g g0 g3 q hq w => ⟨by rw [(hX q hq w).1]; exact N0, fun u => by
    have := (hX q hq w).2
    rw [u.2] at this
    omega⟩
  have same : ∀ p, isP S p → S' 3 p = S 3 p := fun p ip => q8 p (by
    have := ip.2.1
    left
    omega)
  refine Nt_all tt (Int.le_refl _) a le ok3 (fun q hq z => ⟨(hX q hq z).1, by have := (hX q hq z).2; omega⟩) hr ⟨q1 1 (by decide) (by decide) (by decide), q1 6 (by decide) (by decide) (by decide), q1 7 (by decide) (by decide) (by decide), q1 8 (by decide) (by decide) (by decide), q1 9 (by decide) (by decide) (by decide)⟩ ⟨q2 2 (by decide), q2 5 (by decide), q2 6 (by decide)⟩ ?_ ?_ ?_ ?_ ?_
  · refine ⟨(nd_fy a le x1.1).1, (hr 17).trans x1.2.1, ?_, ?_, ?_, ?_, ?_⟩
    · rw [fo 18 (by decide), q2 0 (by decide)]
      exact x1.2.2.1
    · rw [f21, q3]
    · rw [fo 24 (by decide), q2 3 (by decide)]
      exact x1.2.2.2.2.1
    · rw [fo 32 (by decide), q2 7 (by decide)]
      exact x1.2.2.2.2.2.1
    · rw [fo 29 (by decide), crN_c (q1 4 (by decide) (by decide) (by decide)) (q2 4 (by decide))]
      exact x1.2.2.2.2.2.2
  · refine ⟨(nd_fy a le x3.1).1, (nd_fy a le x3.1).2.trans x3.2.1, fun p p1 p2 => ?_⟩
    have old := x3.2.2 p p1 p2
    by_cases c : 5 * (S 0 0 1) ≤ p ∧ p < 5 * (S 0 0 1) + l.length
    · refine ⟨fun z => absurd ((sp p).2 (Or.inr c)) z, fun _ => ?_⟩
      have en : (((p - 5 * (S 0 0 1)).toNat : Nat) : Int) = p - 5 * (S 0 0 1) := by omega
      have w := new (p - 5 * (S 0 0 1)).toNat (by omega)
      have r := q9 (p - 5 * (S 0 0 1)).toNat (by omega)
      have ep : 5 * (S 0 0 1) + (p - 5 * (S 0 0 1)) = p := by omega
      rw [en, ep] at w r
      have p5 : p / 5 = (S 0 0 1) := by omega
      have nP : ¬ isP S p := fun z => by
        have := z.2.1
        omega
      have fz := hZ p p1 p2 nP
      have k2 : S' 3 p 2 = 0 := (r.2.2.1 2 (by decide) (by decide)).trans fz.1
      have k3 : S' 3 p 3 = 0 := (r.2.2.1 3 (by decide) (by decide)).trans fz.2
      refine ⟨w.1, w.2.1.1, ?_, ?_, ?_, ?_, ?_, fun _ => w.2.2.1, fun z => absurd k3 z⟩
      · rw [w.2.1.2.1, p5, q5]
      · rw [w.2.1.2.2.1, p5, q6]
      · rw [w.2.1.2.2.2.1]
        exact r.1.1.symm
      · rw [w.2.1.2.2.2.2, k2]
      · exact arC_iPc w.2.2.2 r.1 r.2.1 hL
    · rw [oth p c]
      have iff : isP S' p ↔ isP S p := (sp p).trans ⟨fun z => z.resolve_right c, Or.inl⟩
      refine ⟨fun z => old.1 (fun y => z (iff.2 y)), fun z => ?_⟩
      have ip := iff.1 z
      have pt := old.2 ip
      have nd0 : ∀ q tt k i, nd h L q tt N 3 k i → k ≠ 0 → ¬ (q = (am_fr h 20 N) ∨ q = N) := fun q tt k i n k0 y => by
        rcases y with y | y
        · exact nd_kne n x3.1 k0 y
        · have e := n.2.2.2
          rw [y, x1.1.2.2.2] at e
          exact absurd e (by simp)
      have w : rPt h3 L3 N S p (am_ar h (am_fr h 20 N) p) := rPt_fz a le tt.1 (fun q hq z => by rw [(hX q hq z).1]; exact N0) (S' := S) rfl rfl pt (nd0 _ _ _ _ pt.1 (by decide)) (fun c3 => nd0 _ _ _ _ (pt.2.2.2.2.2.2.2.2 c3).2.2.1 (by decide))
      have e3 := same p ip
      have ns : p / 5 ≠ (S 0 0 1) := by
        have := ip.2.1
        omega
      unfold rPt
      rw [e3, q4 0 (p / 5) ns, q4 1 (p / 5) ns]
      exact w
  · refine rM_fx a le tt.1 tt.2.1.1 (zf' 5 (by decide) (by decide)) (Int.le_refl _) (q2 3 (by decide)) (q1 5 (by decide) (by decide) (by decide)) (fun k i k1 k2 i1 i2 => ?_) x5
    have mj := (hM k k1 (by omega)).2.2.2.2.2.2.2 i i1 i2
    unfold bhd
    rw [q1 5 (by decide) (by decide) (by decide), same _ mj.1]
  · refine rG_fx a le tt.1 tt.2.1.1 (zf' 4 (by decide) (by decide)) (Int.le_refl _) (q2 4 (by decide)) (fun g g1 g2 => q4 0 _ ?_) (q1 4 (by decide) (by decide) (by decide)) x6
    have := (hg g g1 g2).1.2.1
    omega
  · refine rR_fx a le tt.1 tt.2.1.1 (zf' 10 (by decide) (by decide)) (q2 7 (by decide)) (q1 10 (by decide) (by decide) (by decide)) (fun i k _ _ _ _ => ?_) x10
    rw [q2 4 (by decide)]
    exact lsG_c (q1 4 (by decide) (by decide) (by decide)) _
section
variable {K : am_K} {h : am_H}
/-- a part is made -/
theorem x_pinit {P r : Nat} {m : Nat} {g : Int → Int} {p f du : Int} {D : Nat} (hD : 14 ≤ D) (tyP : am_ty h P = 9) (Pz : P ≤ am_sz h) (tyr : am_ty h r = 115) (rz : r ≤ am_sz h) (ln : am_ln h r = (m : Int)) (hm : m ≤ 1000) (el : ∀ k, 0 ≤ k → k < (m : Int) → am_ty h (am_ar h r k) = 8 ∧ am_ar h r k ≤ am_sz h ∧ am_fi h 109 (am_ar h r k) = g k ∧ (g k = 0 ∨ g k = 1)) (H : ∀ h', fx (fun q => q = P) h h' → am_sz h' = am_sz h → am_us h' = am_us h → am_fr h' 113 P = r → am_fi h' 114 P = sg g 0 m → am_fi h' 110 P = p → am_fi h' 111 P = f → am_fi h' 112 P = du → (∀ f, f ≠ 113 → am_fr h' f P = am_fr h f P) → am_fi h' 115 P = am_fi h 115 P → K (.inl none) h') : am_ev am_prog D 236 [.inr (.inl P), .inl p, .inl f, .inl du, .inr (.inl r)] h K := by
  obtain ⟨d, rfl⟩ : ∃ d, D = d + 13 := ⟨D - 13, by omega⟩
  refine am_en p_X10_init rfl rfl ?_
  refine v_X10_init_0 ⟨tyP, ?_⟩
  have f3 : fx (fun q => q = P) h (am_sfi (am_sfi (am_sfi h 110 P p) 111 P f) 112 P du) := fx_sfi (fx_sfi (fx_sfi fx_refl (Or.inr rfl)) (Or.inr rfl)) (Or.inr rfl)
  have rP : r ≠ P := fun e => by
    rw [e, tyP] at tyr
    exact absurd tyr (by decide)
  refine x_has (g := g) (by omega) tyP Pz tyr rz ln hm (fun k k1 k2 => ?_) (fun h' f' z u f113 f114 hr hi => am_an (v_X10_init_14 ?_))
  · obtain ⟨e1, e2, e3, e4⟩ := el k k1 k2
    refine ⟨e1, e2, ?_, e4⟩
    exact (x_fif (by decide)).trans ((x_fif (by decide)).trans ((x_fif (by decide)).trans e3))
  · refine H h' (fx_trans f3 f') z u f113 f114 ?_ ?_ ?_ (fun f hf => hr f hf) ?_
    · rw [hi 110 (by decide)]
      exact (x_fif (by decide)).trans ((x_fif (by decide)).trans x_fie)
    · rw [hi 111 (by decide)]
      exact (x_fif (by decide)).trans x_fie
    · rw [hi 112 (by decide)]
      exact x_fie
    · rw [hi 115 (by decide)]
      exact (x_fif (by decide)).trans ((x_fif (by decide)).trans (x_fif (by decide)))
/-- the tape is taken: its text is a cell of its own -/
theorem used_ok {L : am_Lb} {x P N : Nat} {S : am_G} {B : Int} {t : Int → Int} {n : Int} (tt : Nt h L x P N S B) (hx : am_ty h x = 1) (hz : x ≤ am_sz h) (hl : L x = (x, 0, 0, 0)) (tp : TpX h L x t n) : fx (fun q => q = x) h (am_sfi (am_wai (am_new h 102 (am_fi h 4 x).toNat) (am_sz h + 1) (am_cpy (am_ai h (am_fr h 3 x)) (fun _ => 0) 0 0 (am_fi h 4 x))) 4 x 0) ∧ TxT (am_sfi (am_wai (am_new h 102 (am_fi h 4 x).toNat) (am_sz h + 1) (am_cpy (am_ai h (am_fr h 3 x)) (fun _ => 0) 0 0 (am_fi h 4 x))) 4 x 0) (am_sz h + 1) t n ∧ Nt (am_sfi (am_wai (am_new h 102 (am_fi h 4 x).toNat) (am_sz h + 1) (am_cpy (am_ai h (am_fr h 3 x)) (fun _ => 0) 0 0 (am_fi h 4 x))) 4 x 0) L x P N S B ∧ am_sz (am_sfi (am_wai (am_new h 102 (am_fi h 4 x).toNat) (am_sz h + 1) (am_cpy (am_ai h (am_fr h 3 x)) (fun _ => 0) 0 0 (am_fi h 4 x))) 4 x 0) = am_sz h + 1 ∧ am_us (am_sfi (am_wai (am_new h 102 (am_fi h 4 x).toNat) (am_sz h + 1) (am_cpy (am_ai h (am_fr h 3 x)) (fun _ => 0) 0 0 (am_fi h 4 x))) 4 x 0) ≤ am_us h + 400 ∧ am_fi (am_sfi (am_wai (am_new h 102 (am_fi h 4 x).toNat) (am_sz h + 1) (am_cpy (am_ai h (am_fr h 3 x)) (fun _ => 0) 0 0 (am_fi h 4 x))) 4 x 0) 4 x = 0 ∧ (∀ f, f ≠ 4 → am_fi (am_sfi (am_wai (am_new h 102 (am_fi h 4 x).toNat) (am_sz h + 1) (am_cpy (am_ai h (am_fr h 3 x)) (fun _ => 0) 0 0 (am_fi h 4 x))) 4 x 0) f x = am_fi h f x) ∧ (∀ f, am_fr (am_sfi (am_wai (am_new h 102 (am_fi h 4 x).toNat) (am_sz h + 1) (am_cpy (am_ai h (am_fr h 3 x)) (fun _ => 0) 0 0 (am_fi h 4 x))) 4 x 0) f x = am_fr h f x) ∧ am_ty (am_sfi (am_wai (am_new h 102 (am_fi h 4 x).toNat) (am_sz h + 1) (am_cpy (am_ai h (am_fr h 3 x)) (fun _ => 0) 0 0 (am_fi h 4 x))) 4 x 0) x = 1 := by
  obtain ⟨t1, t2, t3, t4, t5⟩ := tp
  have f : fx (fun q => q = x) h (am_sfi (am_wai (am_new h 102 (am_fi h 4 x).toNat) (am_sz h + 1) (am_cpy (am_ai h (am_fr h 3 x)) (fun _ => 0) 0 0 (am_fi h 4 x))) 4 x 0) := fx_sfi (fx_wai (fx_new fx_refl) (Or.inl (by omega))) (Or.inr rfl)
  have xk := f.2.2.2 x hz
  have n0 : fx (fun _ => False) h (am_wai (am_new h 102 (am_fi h 4 x).toNat) (am_sz h + 1) (am_cpy (am_ai h (am_fr h 3 x)) (fun _ => 0) 0 0 (am_fi h 4 x))) := fx_wai (fx_new fx_refl) (Or.inl (by omega))
  have nk := (n0.2.2.2 x hz).2.2 (fun z => z)
  refine ⟨f, ⟨x_tyn0 (h := h) (t := 102) (n := (am_fi h 4 x).toNat) rfl, Nat.le_refl _, ?_, t4, fun j j1 j2 => ?_⟩, Nt_x tt f (fun q _ z => by rw [z, hl]; exact ⟨rfl, by show (0 : Nat) ≠ 1; decide⟩), rfl, ?_, x_fie, fun g hg => (x_fif hg).trans (nk.1 g), fun g => nk.2.1 g, xk.1.trans hx⟩
  · have e : am_ln (am_sfi (am_wai (am_new h 102 (am_fi h 4 x).toNat) (am_sz h + 1) (am_cpy (am_ai h (am_fr h 3 x)) (fun _ => 0) 0 0 (am_fi h 4 x))) 4 x 0) (am_sz h + 1) = (((am_fi h 4 x).toNat : Nat) : Int) := x_lnn0 (h := h) (t := 102) (n := (am_fi h 4 x).toNat) rfl
    rw [e, t1]
    omega
  · have e : am_ai (am_sfi (am_wai (am_new h 102 (am_fi h 4 x).toNat) (am_sz h + 1) (am_cpy (am_ai h (am_fr h 3 x)) (fun _ => 0) 0 0 (am_fi h 4 x))) 4 x 0) (am_sz h + 1) = am_cpy (am_ai h (am_fr h 3 x)) (fun _ => 0) 0 0 (am_fi h 4 x) := x_aiwe (h := am_new h 102 (am_fi h 4 x).toNat)
    rw [e, t1]
    refine (if_pos (by omega)).trans ?_
    have e2 : (0 + (j - 0) : Int) = j := by omega
    rw [e2]
    exact t5 j j1 j2
  · show am_us h + (am_fi h 4 x).toNat ≤ am_us h + 400
    rw [t1]
    omega
/-- a reader is made -/
theorem x_rinit {T D : Nat} (hD : 13 ≤ D) (Tz : T ≤ am_sz h) (H : ∀ h', RdS h h' (am_sz h + 1) T (am_sz h + 2) (am_sz h + 3) 0 0 [] → am_sz h' = am_sz h + 3 → am_us h' = am_us h + 25 → K (.inl none) h') : am_ev am_prog D 233 [.inr (.inl (am_sz h + 1)), .inr (.inl T)] (am_new h 6 5) K := by
  have ty6 : am_ty (am_new h 6 5) (am_sz h + 1) = 6 := x_tyn0 rfl
  obtain ⟨d, rfl⟩ : ∃ d, D = d + 13 := ⟨D - 13, by omega⟩
  refine am_en p_X7_init rfl rfl ?_
  refine v_X7_init_0 ⟨Or.inl ty6, ⟨Nat.le_refl _, ty6⟩, H _ ?_ rfl rfl⟩
  have e1 : am_sz (am_new h 6 5) + 1 = am_sz h + 2 := rfl
  have e2 : am_sz (am_new h 6 5) + 1 + 1 = am_sz h + 3 := rfl
  rw [e1]
  refine ⟨?_, ⟨Nat.lt_succ_self _, ?_⟩, ?_, ?_, ?_, ?_, x_fre, ?_, ?_, ?_, by omega, by omega⟩
  · exact fx_sfr (fx_sfi (fx_sfr (fx_new (fx_new (fx_sfr (fx_new fx_refl) (Or.inl (by omega))))) (Or.inl (by omega))) (Or.inl (by omega))) (Or.inl (by omega))
  · show am_sz h + 1 ≤ am_sz h + 3
    omega
  · show am_ty (am_new (am_new (am_new h 6 5) 29 4) 102 16) (am_sz h + 1) = 6
    rw [x_tyn (by show am_sz h + 1 ≤ am_sz h + 2; omega), x_tyn (by show am_sz h + 1 ≤ am_sz h + 1; omega)]
    exact ty6
  · rw [x_frf (by decide)]
    show am_fr (am_sfr (am_new (am_new (am_sfr (am_new h 6 5) 96 (am_sz h + 1) T) 29 4) 102 16) 185 (am_sz h + 2) (am_sz h + 3)) 96 (am_sz h + 1) = T
    rw [x_frf (by decide), x_frn (by show am_sz h + 1 ≤ am_sz h + 2; omega), x_frn (by show am_sz h + 1 ≤ am_sz h + 1; omega), x_fre]
  · show am_fi (am_sfi (am_new (am_new (am_new h 6 5) 29 4) 102 16) 186 (am_sz h + 2) 0) 97 (am_sz h + 1) = 0
    rw [x_fif (by decide), x_fin (by show am_sz h + 1 ≤ am_sz h + 2; omega), x_fin (by show am_sz h + 1 ≤ am_sz h + 1; omega), x_fin0 rfl]
  · show am_fi (am_sfi (am_new (am_new (am_new h 6 5) 29 4) 102 16) 186 (am_sz h + 2) 0) 100 (am_sz h + 1) = 0
    rw [x_fif (by decide), x_fin (by show am_sz h + 1 ≤ am_sz h + 2; omega), x_fin (by show am_sz h + 1 ≤ am_sz h + 1; omega), x_fin0 rfl]
  · rw [x_frf (by decide)]
    exact x_fre
  · have f185 : am_fr (am_sfr (am_sfi (am_sfr (am_new (am_new (am_sfr (am_new h 6 5) 96 (am_sz h + 1) T) 29 4) 102 16) 185 (am_sz h + 2) (am_sz h + 3)) 186 (am_sz h + 2) 0) 98 (am_sz h + 1) (am_sz h + 2)) 185 (am_sz h + 2) = am_sz h + 3 := (x_frf (by decide)).trans x_fre
    have tA : am_ty (am_new (am_new (am_new h 6 5) 29 4) 102 16) (am_sz h + 3) = 102 := x_tyn0 rfl
    have lA : am_ln (am_new (am_new (am_new h 6 5) 29 4) 102 16) (am_sz h + 3) = 16 := x_lnn0 rfl
    refine ⟨?_, ?_, ?_, ?_, ?_, ?_, pf_nil, fun x hx => absurd hx (List.not_mem_nil)⟩
    · show am_ty (am_new (am_new (am_new h 6 5) 29 4) 102 16) (am_sz h + 2) = 29
      rw [x_tyn (by show am_sz h + 2 ≤ am_sz h + 2; omega)]
      exact x_tyn0 rfl
    · rw [f185]
      exact tA
    · show am_fi (am_sfi (am_new (am_new (am_new h 6 5) 29 4) 102 16) 186 (am_sz h + 2) 0) 186 (am_sz h + 2) = 0
      exact x_fie
    · show am_fi (am_sfi (am_new (am_new (am_new h 6 5) 29 4) 102 16) 186 (am_sz h + 2) 0) 188 (am_sz h + 2) = 0
      rw [x_fif (by decide), x_fin (by show am_sz h + 2 ≤ am_sz h + 2; omega)]
      exact x_fin0 rfl
    · rw [f185]
      have l2 : am_ln (am_sfr (am_sfi (am_sfr (am_new (am_new (am_sfr (am_new h 6 5) 96 (am_sz h + 1) T) 29 4) 102 16) 185 (am_sz h + 2) (am_sz h + 3)) 186 (am_sz h + 2) 0) 98 (am_sz h + 1) (am_sz h + 2)) (am_sz h + 3) = 16 := lA
      rw [l2]
      exact ⟨by decide, by decide⟩
    · rw [f185]
      exact ⟨by show am_sz h + 2 ≤ am_sz h + 3; omega, by show am_sz h + 3 ≤ am_sz h + 3; omega⟩
  · show am_ln (am_new (am_new (am_new h 6 5) 29 4) 102 16) (am_sz h + 3) = 16
    exact x_lnn0 rfl
end
