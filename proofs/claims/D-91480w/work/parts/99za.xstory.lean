set_option maxRecDepth 100000
/-! the component reads a story -/
theorem sg_i {f : Int → Int} {n : Nat} : sg f 0 (n + 1) = f 0 + sg (fun j => f (j + 1)) 0 n := by
  rw [sg_sh n 0]
  rfl
theorem chP_sum {t : Int → Int} : ∀ (l : List am_Pz) (w0 w1 : Int), chP t w0 l w1 → sg (fun k => (gP l k.toNat).2.2.2) 0 l.length = w1 - w0
  | [], w0, w1, h => by
    have e : w0 = w1 := h
    rw [e]
    show (0 : Int) = w1 - w1
    omega
  | p :: l, w0, w1, h => by
    have i := chP_sum l _ w1 h.2.2.2.2
    show sg (fun k => (gP (p :: l) k.toNat).2.2.2) 0 (l.length + 1) = _
    rw [sg_i]
    have e : sg (fun j => (gP (p :: l) (j + 1).toNat).2.2.2) 0 l.length = sg (fun k => (gP l k.toNat).2.2.2) 0 l.length := sg_c _ (fun k k1 k2 => by
      have e1 : (k + 1).toNat = k.toNat + 1 := by omega
      show (gP (p :: l) (k + 1).toNat).2.2.2 = _
      rw [e1]
      rfl)
    rw [e, i]
    show p.2.2.2 + (w1 - (w0 + p.2.2.2)) = w1 - w0
    omega
section
variable {K : am_K} {h : am_H}
/-- a part has pieces -/
theorem x_has {P r : Nat} {m : Nat} {g : Int → Int} {D : Nat} (hD : 13 ≤ D) (tyP : am_ty h P = 9) (Pz : P ≤ am_sz h) (tyr : am_ty h r = 115) (rz : r ≤ am_sz h) (ln : am_ln h r = (m : Int)) (hm : m ≤ 1000) (el : ∀ k, 0 ≤ k → k < (m : Int) → am_ty h (am_ar h r k) = 8 ∧ am_ar h r k ≤ am_sz h ∧ am_fi h 109 (am_ar h r k) = g k ∧ (g k = 0 ∨ g k = 1)) (H : ∀ h', fx (fun q => q = P) h h' → am_sz h' = am_sz h → am_us h' = am_us h → am_fr h' 113 P = r → am_fi h' 114 P = sg g 0 m → (∀ f, f ≠ 113 → am_fr h' f P = am_fr h f P) → (∀ f, f ≠ 114 → am_fi h' f P = am_fi h f P) → K (.inl none) h') : am_ev am_prog D 274 [.inr (.inl P), .inr (.inl r)] h K := by
  have rP : r ≠ P := fun e => by
    rw [e, tyP] at tyr
    exact absurd tyr (by decide)
  obtain ⟨d, rfl⟩ : ∃ d, D = d + 13 := ⟨D - 13, by omega⟩
  refine am_en p_X10_has rfl rfl ?_
  refine v_X10_has_0 ⟨tyP, tyr, ?_⟩
  rw [ln]
  have bd : ∀ k : Int, 0 ≤ k → k ≤ (m : Int) → 0 ≤ sg g 0 k.toNat ∧ sg g 0 k.toNat ≤ 1000 := fun k k1 k2 => by
    have q := sg_bd (c := 1) (f := g) k.toNat 0 (fun j j1 j2 => by
      have := (el j j1 (by omega)).2.2.2
      omega)
    omega
  have main : ∀ k, 0 ≤ k → k ≤ (m : Int) → ∀ h' o5, fx (fun q => q = P) h h' → am_sz h' = am_sz h → am_us h' = am_us h → am_fr h' 113 P = r → am_fi h' 114 P = sg g 0 k.toNat → (∀ f, f ≠ 113 → am_fr h' f P = am_fr h f P) → (∀ f, f ≠ 114 → am_fi h' f P = am_fi h f P) → am_W m_X10_has (am_ev am_prog (d + 12)) K 13 [some (.inr (.inl (P))), some (.inr (.inl (r))), some (.inr (.inl (r))), some (.inl ((m : Int))), some (.inl (k)), o5] [] h' := by
    refine lp_z ?_ ?_
    · intro k k1 k2 hL h' o5 f z u f113 f114 fr fi
      obtain ⟨e1, e2, e3, e4⟩ := el k k1 k2
      have eP : am_ar h r k ≠ P := fun e => by
        rw [e, tyP] at e1
        exact absurd e1 (by decide)
      obtain ⟨a1, a2, a3⟩ := f.2.2.2 r rz
      obtain ⟨b1, b2, b3⟩ := f.2.2.2 _ e2
      have ar : am_ar h' r = am_ar h r := (a3 rP).2.2.2
      have f109 : am_fi h' 109 (am_ar h r k) = g k := ((b3 eP).1 109).trans e3
      have tyP' : am_ty h' P = 9 := (f.2.2.2 P Pz).1.trans tyP
      rw [sg_s k1] at hL
      have b := bd k k1 (by omega)
      refine v_X10_has_13 ?_
      rw [ar, f109, f114, a2, ln]
      refine ⟨fun z => absurd z (by omega), fun _ => ⟨⟨a1.trans tyr, by omega, tyP'⟩, b1.trans e1, e4, fun c => ⟨by omega, by omega, ?_⟩, fun c => ⟨by omega, by omega, ?_⟩⟩⟩
      · exact hL _ _ (fx_sfi f (Or.inr rfl)) z u f113 (by rw [x_fie, c]) fr (fun q hq => (x_fif hq).trans (fi q hq))
      · have c1 : g k = 1 := by omega
        exact hL _ _ (fx_sfi f (Or.inr rfl)) z u f113 (by rw [x_fie, c1]) fr (fun q hq => (x_fif hq).trans (fi q hq))
    · intro h' o5 f z u f113 f114 fr fi
      have em : ((m : Int)).toNat = m := by omega
      rw [em] at f114
      exact v_X10_has_13 ⟨fun _ => H h' f z u f113 f114 fr fi, fun z => absurd z (by omega)⟩
  exact main 0 (by omega) (by omega) _ none (fx_sfi (fx_sfr fx_refl (Or.inr rfl)) (Or.inr rfl)) rfl rfl x_fre (x_fie.trans rfl) (fun q hq => x_frf hq) (fun q hq => x_fif hq)
end
/-- the parts under way -/
def PLs (hb h : am_H) (Lr A : Nat) (t : Int → Int) (done : List am_Pt) : Prop := xLm h Lr ∧ am_sz hb < Lr ∧ am_fi h 195 Lr = (done.length : Int) ∧ ((am_ln h (am_fr h 194 Lr)) = 0 ∨ am_sz hb < (am_fr h 194 Lr)) ∧ (0 ≤ am_fi h 193 Lr ∧ am_fi h 193 Lr ≤ (done.length : Int)) ∧ ∀ k : Nat, k < done.length → arC hb h A t (am_ar h (am_fr h 194 Lr) k) (gD done k).2
section
variable {K : am_K} {h0 hb h : am_H} {R T B A Lr : Nat} {t : Int → Int} {n a c0 : Int} {l : List Int} {done : List am_Pt}
theorem PLs_fx {X : Nat → Prop} {h' : am_H} (f : fx X h h') (g : ∀ q, q ≤ am_sz h → X q → am_ty h q = 6 ∨ am_ty h q = 29 ∨ (am_ty h q = 102 ∧ q = A)) (ls : PLs hb h Lr A t done) : PLs hb h' Lr A t done ∧ (am_ln h' (am_fr h' 194 Lr)) = (am_ln h (am_fr h 194 Lr)) := by
  obtain ⟨x1, x2, x3, x4, x5, x6⟩ := ls
  obtain ⟨⟨v1, v2, v3, v4, v5⟩, w1, w2, w3⟩ := x1
  obtain ⟨a1, a2, a3⟩ := f.2.2.2 Lr v5.1
  obtain ⟨b1, b2, b3⟩ := f.2.2.2 _ v5.2
  obtain ⟨c1, c2, c3, c4⟩ := a3 (fun z => by
    have := g Lr v5.1 z
    omega)
  obtain ⟨d1, d2, d3, d4⟩ := b3 (fun z => by
    have := g _ v5.2 z
    omega)
  refine ⟨⟨⟨⟨?_, ?_, ?_, ?_, ?_⟩, ?_, ?_, ?_⟩, x2, ?_, ?_, ?_, fun k hk => ?_⟩, by rw [c2, b2]⟩
  · rw [a1]; exact v1
  · rw [c2, b1]; exact v2
  · rw [c1, c2, b2]; exact v3
  · rw [c2, b2]; exact v4
  · rw [c2]; exact ⟨Nat.le_trans v5.1 f.1, Nat.le_trans v5.2 f.1⟩
  · rw [c2, b2]; exact w1
  · rw [c2, b2, f.2.2.1]; exact w2
  · rw [c2, b2, b1]; exact w3
  · rw [c1]; exact x3
  · rw [c2, b2]; exact x4
  · rw [c1]; exact x5
  · rw [c2, d4]
    refine arC_fx f (fun q hq z => ?_) (x6 k hk)
    have k := g q hq z
    refine ⟨by omega, by omega, by omega, fun y => ?_⟩
    omega
theorem x_addL {r D : Nat} {p : am_Pt} (hD : 20 ≤ D) (hb0 : am_sz h0 ≤ am_sz hb) (rd : RdS h0 h R T B A a c0 l) (ls : PLs hb h Lr A t done) (hc : (done.length : Int) ≤ 40) (ac : arC hb h A t r p.2) (H : ∀ h2, (∀ f, am_fr h2 f R = am_fr h f R) → RdS h0 h2 R T B A a c0 l → PLs hb h2 Lr A t (done ++ [p]) → (am_sz h2 : Int) + (am_ln h (am_fr h 194 Lr)) ≤ am_sz h + (am_ln h2 (am_fr h2 194 Lr)) → (am_us h2 : Int) + 5 * (am_ln h (am_fr h 194 Lr)) ≤ am_us h + 5 * (am_ln h2 (am_fr h2 194 Lr)) → K (.inl (some (.inl (1)))) h2) : am_ev am_prog D 205 [.inr (.inl Lr), .inr (.inl r)] h K := by
  obtain ⟨x1, x2, x3, x4, x5, x6⟩ := ls
  obtain ⟨d, rfl⟩ : ∃ d, D = d + 9 := ⟨D - 9, by omega⟩
  have ty := ac.1
  refine c_add x1 (fun e => by rw [← e, x3]; omega) ⟨by have := ac.2.1; omega, by rw [ty]; simp [am_tin]⟩ ac.2.1.2 (by omega) (fun h2 fr xm e5 e3 el en hA hs hu hg => ?_)
  have tyX : ∀ q, (q = Lr ∨ (q = (am_fr h 194 Lr) ∧ am_fi h 195 Lr < (am_ln h (am_fr h 194 Lr)))) → q ≤ am_sz h → am_sz hb < q ∧ (am_ty h q = 31 ∨ am_ty h q = 114) := fun q z _ => by
    rcases z with z | ⟨z, z2⟩
    · rw [z]
      exact ⟨x2, Or.inl x1.1.1⟩
    · rw [z]
      exact ⟨x4.resolve_left (by omega), Or.inr (x1.2.2.2 (by omega))⟩
  have ne : ∀ q, (q = Lr ∨ (q = (am_fr h 194 Lr) ∧ am_fi h 195 Lr < (am_ln h (am_fr h 194 Lr)))) → q ≤ am_sz h → am_sz h0 < q ∧ q ≠ R ∧ q ≠ B ∧ q ≠ A := fun q z hq => by
    have k := tyX q z hq
    obtain ⟨s1, s2, s3, s4, s5, s6, s7, s8, s9, s10⟩ := rd
    have tB := s9.1
    have tA := s9.2.1
    rw [s8] at tA
    refine ⟨by omega, fun e => ?_, fun e => ?_, fun e => ?_⟩
    · rw [e, s3] at k
      omega
    · rw [e, tB] at k
      omega
    · rw [e, tA] at k
      omega
  have rd2 := RdS_fx rd fr ne
  have Rz := rd.2.1.2
  have lap : ((done ++ [p]).length : Int) = done.length + 1 := by
    rw [List.length_append]
    rfl
  have gX : ∀ q, q ≤ am_sz h → (q = Lr ∨ (q = (am_fr h 194 Lr) ∧ am_fi h 195 Lr < (am_ln h (am_fr h 194 Lr)))) → am_ty h q ≠ 8 ∧ am_ty h q ≠ 30 ∧ am_ty h q ≠ 115 ∧ ((am_ty h q = 102 ∨ am_ty h q = 122) → q = A) := fun q hq z => by
    have k := (tyX q z hq).2
    omega
  refine H h2 (fun f => ((fr.2.2.2 R Rz).2.2 (fun z => (ne R z Rz).2.1 rfl)).2.1 f) rd2 ⟨xm, x2, by rw [e5, x3, lap], ?_, ?_, fun k hk => ?_⟩ hs hu
  · rcases hA with e | e
    · rw [e]
      rcases x4 with y | y
      · left
        have g3 := (fr.2.2.2 _ x1.1.2.2.2.2.2).2.1
        rw [g3]
        exact y
      · exact Or.inr y
    · right
      have := x1.1.2.2.2.2.1
      omega
  · rw [e3, lap]
    omega
  · rw [List.length_append] at hk
    have hk' : k < done.length + 1 := hk
    rw [gD_ap done k (by omega)]
    by_cases c : k < done.length
    · rw [if_pos c, el k (by omega) (by omega)]
      exact arC_fx fr gX (x6 k c)
    · rw [if_neg c]
      have ek : k = done.length := by omega
      rw [x3] at en
      rw [ek, en]
      exact arC_fx fr gX ac
/-- the parts of a story -/
theorem x_storyR {D : Nat} (hD : 75 ≤ D) (x : TxT h0 T t n) (cs : (am_ty h0 (am_cs h0 0) = 134 ∧ am_cs h0 0 ≤ am_sz h0 ∧ am_ln h0 (am_cs h0 0) = 0)) (rd : RdS h0 h R T B A a 0 l) (hl : (l.length : Int) ≤ 12) (ha : 0 ≤ a ∧ a ≤ n) (H0 : ∀ p, soR t n 5 a [] = .inl p → ThR h0 h K p 8300 42000) (H1 : ∀ ps, soR t n 5 a [] = .inr ps → ∀ h' r, fx (fun _ => False) h0 h' → PLs h0 h' r A t ps → ps.length ≤ 5 → (am_sz h' : Int) ≤ am_sz h + 8300 → (am_us h' : Int) ≤ am_us h + 42000 → K (.inl (some (.inr (.inl (r))))) h') : am_ev am_prog D 234 [.inr (.inl R)] h K := by
  have csh : (am_ty h (am_cs h 0) = 134 ∧ am_cs h 0 ≤ am_sz h ∧ am_ln h (am_cs h 0) = 0) := by
    have k := rd.1.2.2.2 _ cs.2.1
    have e := rd.1.2.2.1
    rw [e]
    exact ⟨k.1.trans cs.1, Nat.le_trans cs.2.1 rd.1.1, k.2.1.trans cs.2.2⟩
  have nl := nwL csh
  obtain ⟨d, rfl⟩ : ∃ d, D = d + 13 := ⟨D - 13, by omega⟩
  refine am_en p_X7_story rfl rfl ?_
  refine v_X7_story_0 ⟨⟨rd.2.1.2, rd.2.2.1⟩, ?_⟩
  have rd1 := RdS_fx rd nl.1 (fun q z _ => z.elim)
  have ls1 : PLs h0 (am_sfr (am_sfi (am_new h 31 3) 193 (am_sz h + 1) 0) 194 (am_sz h + 1) (am_cs h 0)) (am_sz h + 1) A t [] := ⟨nl.2.1, by have := rd.1.1; omega, nl.2.2.1, Or.inl nl.2.2.2.2, by rw [nl.2.2.2.1]; exact ⟨Int.le_refl _, Int.le_refl _⟩, fun k hk => absurd hk (Nat.not_lt_zero _)⟩
  have zl : am_sz (am_sfr (am_sfi (am_new h 31 3) 193 (am_sz h + 1) 0) 194 (am_sz h + 1) (am_cs h 0)) = am_sz h + 1 := rfl
  have ul : am_us (am_sfr (am_sfi (am_new h 31 3) 193 (am_sz h + 1) 0) 194 (am_sz h + 1) (am_cs h 0)) = am_us h + 3 := rfl
  generalize hh1 : (am_sfr (am_sfi (am_new h 31 3) 193 (am_sz h + 1) 0) 194 (am_sz h + 1) (am_cs h 0)) = h1 at *
  generalize hLr : am_sz h + 1 = Lr at *
  have errL : ∀ (h' : am_H) (a : Int) (done : List am_Pt) (l : List Int), RdS h0 h' R T B A a 0 l → (am_sz h' : Int) ≤ am_sz h + 1 + 1200 * (done.length : Int) + (am_ln h' (am_fr h' 194 Lr)) → (am_us h' : Int) ≤ am_us h + 3 + 6000 * (done.length : Int) + 5 * (am_ln h' (am_fr h' 194 Lr)) → (am_ln h' (am_fr h' 194 Lr)) ≤ 1000 → done.length ≤ 5 → ThR h0 h K a 8300 42000 → am_ev am_prog (d + 12) 313 [.inr (.inl (am_sz h' + 1)), .inl a] (am_new h' 7 7) (am_aft (am_hand m_X7_story K (am_W m_X7_story (am_ev am_prog (d + 12)) K) 28) (am_W m_X7_story (am_ev am_prog (d + 12)) K) 28 [some (.inr (.inl (R))), some (.inr (.inl (Lr)))] [.inr (.inl (am_sz h' + 1))]) := by
    intro h' a done l rd' cz cu N1 d5 G
    refine x_err (by omega) (x_tyn0 rfl) (fun h2 f z u ty fi => am_an (v_X7_story_29 ⟨by omega, ?_⟩))
    have z' : am_sz h2 = am_sz h' + 1 := z
    have u' : am_us h2 = am_us h' + 7 := u
    refine G h2 _ ?_ ty (by omega) fi (by omega) (by omega)
    refine fx_trans2 (fx_new rd'.1) f (fun q hq e => ?_)
    have := rd'.1.1
    omega
  -- behind a part
  have main : ∀ (k : Nat) (a : Int) (done : List am_Pt) (h' : am_H) (l : List Int), done.length + k = 5 → 0 ≤ a ∧ a ≤ n → RdS h0 h' R T B A a 0 l → (l.length : Int) ≤ 12 → PLs h0 h' Lr A t done → (am_sz h' : Int) ≤ am_sz h + 1 + 1200 * (done.length : Int) + (am_ln h' (am_fr h' 194 Lr)) → (am_us h' : Int) ≤ am_us h + 3 + 6000 * (done.length : Int) + 5 * (am_ln h' (am_fr h' 194 Lr)) → (∀ p, (if n ≤ a then .inr done else if t a = 47 ∧ done.length ≠ 5 then soR t n k (a + 1) done else .inl a) = .inl p → ThR h0 h K p 8300 42000) → (∀ ps, (if n ≤ a then .inr done else if t a = 47 ∧ done.length ≠ 5 then soR t n k (a + 1) done else .inl a) = .inr ps → ∀ h' r, fx (fun _ => False) h0 h' → PLs h0 h' r A t ps → ps.length ≤ 5 → (am_sz h' : Int) ≤ am_sz h + 8300 → (am_us h' : Int) ≤ am_us h + 42000 → K (.inl (some (.inr (.inl (r))))) h') → am_W m_X7_story (am_ev am_prog (d + 12)) K 9 [some (.inr (.inl (R))), some (.inr (.inl (Lr)))] [] h' := by
    intro k
    induction k with
    | zero =>
      intro a done h' l hk ha rd' hl' ls' cz cu G0 G1
      have N1 : (am_ln h' (am_fr h' 194 Lr)) ≤ 1000 := ls'.1.2.1
      have err := errL h' a done l rd' cz cu N1
      obtain ⟨y1, y2, y3, y4, y5⟩ := TxT_fx rd'.1 x
      have f195 := ls'.2.2.1
      have bad : ¬ (n ≤ a) → am_ev am_prog (d + 12) 313 [.inr (.inl (am_sz h' + 1)), .inl a] (am_new h' 7 7) (am_aft (am_hand m_X7_story K (am_W m_X7_story (am_ev am_prog (d + 12)) K) 28) (am_W m_X7_story (am_ev am_prog (d + 12)) K) 28 [some (.inr (.inl (R))), some (.inr (.inl (Lr)))] [.inr (.inl (am_sz h' + 1))]) := fun c => err (by omega) (G0 a (by rw [if_neg c, if_neg (fun w => w.2 (by omega))]))
      refine v_X7_story_9 ?_
      rw [rd'.2.2.2.1, rd'.2.2.2.2.1, y3, f195]
      refine ⟨⟨rd'.2.2.1, Or.inl y1⟩, fun z => G1 done (if_pos z) h' Lr rd'.1 ls' (by omega) (by omega) (by omega), fun z => ⟨Or.inl rd'.2.2.1, fun w => absurd w (by omega), fun w => ⟨by omega, ?_⟩⟩⟩
      exact ⟨fun _ => ⟨rd'.2.1.2, bad (by omega)⟩, fun _ => ⟨fun _ => ⟨rd'.2.1.2, bad (by omega)⟩, fun _ => ⟨ls'.1.1.1, fun y => absurd (by omega) y, fun _ => ⟨rd'.2.1.2, bad (by omega)⟩⟩⟩⟩
    | succ k ih =>
      intro a done h' l hk ha rd' hl' ls' cz cu G0 G1
      have N1 : (am_ln h' (am_fr h' 194 Lr)) ≤ 1000 := ls'.1.2.1
      have err := errL h' a done l rd' cz cu N1
      obtain ⟨y1, y2, y3, y4, y5⟩ := TxT_fx rd'.1 x
      have f195 := ls'.2.2.1
      have bad : ¬ (n ≤ a) → ¬ (t a = 47 ∧ done.length ≠ 5) → am_ev am_prog (d + 12) 313 [.inr (.inl (am_sz h' + 1)), .inl a] (am_new h' 7 7) (am_aft (am_hand m_X7_story K (am_W m_X7_story (am_ev am_prog (d + 12)) K) 28) (am_W m_X7_story (am_ev am_prog (d + 12)) K) 28 [some (.inr (.inl (R))), some (.inr (.inl (Lr)))] [.inr (.inl (am_sz h' + 1))]) := fun c c2 => err (by omega) (G0 a (by rw [if_neg c, if_neg c2]))
      refine v_X7_story_9 ?_
      rw [rd'.2.2.2.1, rd'.2.2.2.2.1, y3, f195]
      refine ⟨⟨rd'.2.2.1, Or.inl y1⟩, fun z => G1 done (if_pos z) h' Lr rd'.1 ls' (by omega) (by omega) (by omega), fun z => ⟨Or.inl rd'.2.2.1, fun w => absurd w (by omega), fun w => ⟨by omega, ?_⟩⟩⟩
      rw [y5 a ha.1 w]
      refine ⟨fun v => ⟨rd'.2.1.2, bad (by omega) (fun u => by omega)⟩, fun v => ⟨fun v2 => ⟨rd'.2.1.2, bad (by omega) (fun u => by omega)⟩, fun v2 => ⟨ls'.1.1.1, fun y => ⟨by omega, ?_⟩, fun y => ⟨rd'.2.1.2, bad (by omega) (fun u => u.2 (by omega))⟩⟩⟩⟩
      rw [if_neg (by omega), if_pos ⟨by omega, by omega⟩] at G0 G1
      have rd2 := RdS_at (a' := a + 1) rd'
      have f2 : fx (fun q => q = R) h' (am_sfi h' 97 R (a + 1)) := fx_sfi fx_refl (Or.inr rfl)
      have l2 := PLs_fx f2 (fun q hq z => by rw [z]; exact Or.inl rd'.2.2.1) ls'
      have zz : am_sz (am_sfi h' 97 R (a + 1)) = am_sz h' := rfl
      have uu : am_us (am_sfi h' 97 R (a + 1)) = am_us h' := rfl
      refine x_part (by omega) x cs rd2 hl' (by omega) (fun p hp h2 E g1 g2 g3 g4 g5 g6 => am_ax rfl ?_) (fun q hq h3 r l3 f3 hr3 rd3 hl3 ac cz3 cu3 => am_av (v_X7_story_39 ?_))
      · refine G0 p ?_ h2 E g1 g2 g3 g4 (by omega) (by omega)
        show soT t n done.length (paR t n (bE t n (a + 1)) 0 []) (fun z p => soR t n k z (done ++ [p])) done = _
        rw [hp]
        rfl
      · have l3' := PLs_fx f3 (RdS_ty rd2) l2.1
        have ac0 := arC_b (h0 := h0) rd2.1.1 ac
        have pv := paR_v (n - bE t n (a + 1)).toNat (bE t n (a + 1)) 0 [] (Nat.le_refl _) (by omega) (by show (0 : Int) ≤ 40; omega) rfl q hq
        have b0 := bE_v (t := t) (n := n) (a := a + 1)
        refine ⟨l3'.1.1.1.1, x_addL (p := q.2) (by omega) (Nat.le_refl _) rd3 l3'.1 (by omega) ac0 (fun h4 hr4 rd4 ls4 cz4 cu4 => am_av (v_X7_story_40 ?_))⟩
        have eL : (am_ln h3 (am_fr h3 194 Lr)) = (am_ln h' (am_fr h' 194 Lr)) := l3'.2.trans l2.2
        rw [eL] at cz4 cu4
        have ld : (done ++ [q.2]).length = done.length + 1 := by
          rw [List.length_append]
          rfl
        have ldi : ((done ++ [q.2]).length : Int) = (done.length : Int) + 1 := by omega
        have er : soR t n (k + 1) (a + 1) done = (if n ≤ q.1 then .inr (done ++ [q.2]) else if t q.1 = 47 ∧ (done ++ [q.2]).length ≠ 5 then soR t n k (q.1 + 1) (done ++ [q.2]) else .inl q.1) := by
          show soT t n done.length (paR t n (bE t n (a + 1)) 0 []) (fun z p => soR t n k z (done ++ [p])) done = _
          rw [hq, ld]
          rfl
        rw [er] at G0 G1
        exact ih q.1 (done ++ [q.2]) h4 l3 (by omega) (by omega) rd4 hl3 ls4 (by rw [ldi]; omega) (by rw [ldi]; omega) G0 G1
  refine x_part (by omega) x cs rd1 hl ha (fun p hp h2 E g1 g2 g3 g4 g5 g6 => am_ax rfl ?_) (fun q hq h3 r l3 f3 hr3 rd3 hl3 ac cz3 cu3 => am_av (v_X7_story_7 ?_))
  · refine H0 p ?_ h2 E g1 g2 g3 g4 (by omega) (by omega)
    show soT t n 0 (paR t n (bE t n a) 0 []) (fun z p => soR t n 4 z ([] ++ [p])) [] = _
    rw [hp]
    rfl
  · have l3' := PLs_fx f3 (RdS_ty rd1) ls1
    have ac0 := arC_b (h0 := h0) rd1.1.1 ac
    have pv := paR_v (n - bE t n a).toNat (bE t n a) 0 [] (Nat.le_refl _) (by omega) (by show (0 : Int) ≤ 40; omega) rfl q hq
    have b0 := bE_v (t := t) (n := n) (a := a)
    refine ⟨l3'.1.1.1.1, x_addL (p := q.2) (by omega) (Nat.le_refl _) rd3 l3'.1 (by show (0 : Int) ≤ 40; omega) ac0 (fun h4 hr4 rd4 ls4 cz4 cu4 => am_av (v_X7_story_8 ?_))⟩
    have eL : (am_ln h3 (am_fr h3 194 Lr)) = 0 := l3'.2.trans nl.2.2.2.2
    rw [eL] at cz4 cu4
    have er : soR t n 5 a [] = (if n ≤ q.1 then .inr ([] ++ [q.2]) else if t q.1 = 47 ∧ (([] : List am_Pt) ++ [q.2]).length ≠ 5 then soR t n 4 (q.1 + 1) ([] ++ [q.2]) else .inl q.1) := by
      show soT t n 0 (paR t n (bE t n a) 0 []) (fun z p => soR t n 4 z ([] ++ [p])) [] = _
      rw [hq]
      rfl
    rw [er] at H0 H1
    exact main 4 q.1 ([] ++ [q.2]) h4 l3 rfl (by omega) rd4 hl3 ls4 (by show _ ≤ _ + 1200 * (1 : Int) + _; omega) (by show _ ≤ _ + 6000 * (1 : Int) + _; omega) H0 H1
end
