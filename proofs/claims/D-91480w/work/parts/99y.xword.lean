set_option maxRecDepth 100000
/-! the component reads words -/
def pcC (h0 h : am_H) (A : Nat) (t : Int → Int) (q : Nat) (p : am_Pz) : Prop := am_ty h q = 8 ∧ (am_sz h0 < q ∧ q ≤ am_sz h) ∧ am_fi h 109 q = p.2.2.2 ∧ xSc h (am_fr h 108 q) p.2.2.1 (fun i => t (p.2.1 + i)) ∧ (am_sz h0 < am_fr h 189 (am_fr h 108 q) ∧ am_fr h 189 (am_fr h 108 q) ≠ A) ∧ am_ty h (am_fr h 108 q) = 30
theorem pcC_fx {X : Nat → Prop} {h0 h h' : am_H} {A q : Nat} {t : Int → Int} {p : am_Pz} (f : fx X h h') (g : ∀ q, q ≤ am_sz h → X q → am_ty h q ≠ 8 ∧ am_ty h q ≠ 30 ∧ ((am_ty h q = 102 ∨ am_ty h q = 122) → q = A)) (x : pcC h0 h A t q p) : pcC h0 h' A t q p := by
  obtain ⟨x1, x2, x3, x4, x5, x6⟩ := x
  obtain ⟨a1, a2, a3⟩ := f.2.2.2 q x2.2
  obtain ⟨c1, c2, c3, c4⟩ := a3 (fun z => (g q x2.2 z).1 x1)
  have y := xSc_fx0 f (fun z => (g _ x4.1.2.2.2.2.1.1 z).2.1 x6) (fun z => x5.2 ((g _ x4.1.2.2.2.2.1.2 z).2.2 x4.1.2.1)) x4
  have ty := (f.2.2.2 _ x4.1.2.2.2.2.1.1).1
  unfold pcC
  rw [c1, c2, y.2, ty]
  exact ⟨a1.trans x1, ⟨x2.1, Nat.le_trans x2.2 f.1⟩, x3, y.1, x5, x6⟩
/-- the list under way -/
def LsS (h0 h : am_H) (Lr A : Nat) (t : Int → Int) (cur : List am_Pz) : Prop := xLm h Lr ∧ am_sz h0 < Lr ∧ am_fi h 195 Lr = (cur.length : Int) ∧ ((am_ln h (am_fr h 194 Lr)) = 0 ∨ am_sz h0 < (am_fr h 194 Lr)) ∧ (0 ≤ am_fi h 193 Lr ∧ am_fi h 193 Lr ≤ (cur.length : Int)) ∧ ∀ k : Nat, k < cur.length → pcC h0 h A t (am_ar h (am_fr h 194 Lr) k) (gP cur k)
section
variable {K : am_K} {h0 hb h : am_H} {R T B A Lr : Nat} {t : Int → Int} {n a c0 : Int} {l : List Int} {cur : List am_Pz}
theorem LsS_X (ls : LsS hb h Lr A t cur) : ∀ q, (fun q => q = Lr ∨ (q = (am_fr h 194 Lr) ∧ am_fi h 195 Lr < (am_ln h (am_fr h 194 Lr)))) q → q ≤ am_sz h → am_sz hb < q ∧ (am_ty h q = 31 ∨ am_ty h q = 114) := fun q z _ => by
  obtain ⟨x1, x2, x3, x4, x5, x6⟩ := ls
  rcases z with z | ⟨z, z2⟩
  · rw [z]
    exact ⟨x2, Or.inl x1.1.1⟩
  · rw [z]
    refine ⟨x4.resolve_left (by omega), Or.inr (x1.2.2.2 (by omega))⟩
theorem LsS_fx {X : Nat → Prop} {h' : am_H} (f : fx X h h') (g : ∀ q, q ≤ am_sz h → X q → am_ty h q ≠ 8 ∧ am_ty h q ≠ 30 ∧ am_ty h q ≠ 31 ∧ am_ty h q ≠ 114 ∧ am_ty h q ≠ 134 ∧ ((am_ty h q = 102 ∨ am_ty h q = 122) → q = A)) (ls : LsS hb h Lr A t cur) : LsS hb h' Lr A t cur ∧ am_fr h' 194 Lr = am_fr h 194 Lr ∧ (am_ln h' (am_fr h' 194 Lr)) = (am_ln h (am_fr h 194 Lr)) := by
  obtain ⟨x1, x2, x3, x4, x5, x6⟩ := ls
  obtain ⟨⟨v1, v2, v3, v4, v5⟩, w1, w2, w3⟩ := x1
  obtain ⟨a1, a2, a3⟩ := f.2.2.2 Lr v5.1
  obtain ⟨b1, b2, b3⟩ := f.2.2.2 _ v5.2
  obtain ⟨c1, c2, c3, c4⟩ := a3 (fun z => (g Lr v5.1 z).2.2.1 v1)
  obtain ⟨d1, d2, d3, d4⟩ := b3 (fun z => by
    have q := g _ v5.2 z
    rcases v2 with w | w
    · exact q.2.2.2.1 w
    · exact q.2.2.2.2.1 w)
  refine ⟨⟨⟨⟨?_, ?_, ?_, ?_, ?_⟩, ?_, ?_, ?_⟩, x2, ?_, ?_, ?_, fun k hk => ?_⟩, c2 194, by rw [c2, b2]⟩
  · rw [a1]; exact v1
  · rw [c2, b1]; exact v2
  · rw [c1, c2, b2]; exact v3
  · rw [c2, b2]; exact v4
  · rw [c2]; exact ⟨Nat.le_trans v5.1 f.1, Nat.le_trans v5.2 f.1⟩
  · rw [c2, b2]; exact w1
  · rw [c2, b2, f.2.2.1]; exact w2
  · rw [c2, b2, b1]; exact w3
  · rw [c1]; exact x3
  · rw [c2, b2]; exact x4
  · rw [c1]; exact x5
  · rw [c2, d4]
    exact pcC_fx f (fun q hq z => ⟨(g q hq z).1, (g q hq z).2.1, (g q hq z).2.2.2.2.2⟩) (x6 k hk)
/-- a piece is put into the list -/
theorem x_addP {s : Nat} {fl len w : Int} {D : Nat} (hD : 20 ≤ D) (hb0 : am_sz h0 ≤ am_sz hb) (rd : RdS h0 h R T B A (lE t n a) c0 l) (ls : LsS hb h Lr A t cur) (hc : (cur.length : Int) ≤ 40) (xs : xSc h s len (fun i => t (a + i))) (sz : am_sz hb < am_fr h 189 s ∧ am_fr h 189 s ≠ A) (sty : am_ty h s = 30) (hfl : fl = 0 ∨ fl = 1) (H : ∀ h2, fx (fun q => q = Lr ∨ (q = (am_fr h 194 Lr) ∧ am_fi h 195 Lr < (am_ln h (am_fr h 194 Lr)))) h h2 → (∀ f, am_fr h2 f R = am_fr h f R) → RdS h0 h2 R T B A (lE t n a) c0 l → LsS hb h2 Lr A t (cur ++ [(w, a, len, fl)]) → (am_sz h2 : Int) + (am_ln h (am_fr h 194 Lr)) ≤ am_sz h + (am_ln h2 (am_fr h2 194 Lr)) + 1 → (am_us h2 : Int) + 5 * (am_ln h (am_fr h 194 Lr)) ≤ am_us h + 5 * (am_ln h2 (am_fr h2 194 Lr)) + 2 → K (.inl (some (.inl (1)))) h2) : am_ev am_prog D 205 [.inr (.inl Lr), .inr (.inl (am_sz h + 1))] (am_sfi (am_sfr (am_new h 8 2) 108 (am_sz h + 1) s) 109 (am_sz h + 1) fl) K := by
  have fp : fx (fun _ => False) h (am_sfi (am_sfr (am_new h 8 2) 108 (am_sz h + 1) s) 109 (am_sz h + 1) fl) := fx_sfi (fx_sfr (fx_new fx_refl) (Or.inl (by omega))) (Or.inl (by omega))
  have lx := LsS_fx fp (fun q _ z => z.elim) ls
  obtain ⟨x1, x2, x3, x4, x5, x6⟩ := lx.1
  have lnp : (am_ln (am_sfi (am_sfr (am_new h 8 2) 108 (am_sz h + 1) s) 109 (am_sz h + 1) fl) (am_fr (am_sfi (am_sfr (am_new h 8 2) 108 (am_sz h + 1) s) 109 (am_sz h + 1) fl) 194 Lr)) = (am_ln h (am_fr h 194 Lr)) := lx.2.2
  have arp : (am_fr (am_sfi (am_sfr (am_new h 8 2) 108 (am_sz h + 1) s) 109 (am_sz h + 1) fl) 194 Lr) = (am_fr h 194 Lr) := lx.2.1
  have ty8 : am_ty (am_sfi (am_sfr (am_new h 8 2) 108 (am_sz h + 1) s) 109 (am_sz h + 1) fl) (am_sz h + 1) = 8 := x_tyn0 (h := h) (t := 8) (n := 2) rfl
  obtain ⟨d, rfl⟩ : ∃ d, D = d + 9 := ⟨D - 9, by omega⟩
  refine c_add x1 (fun e => by rw [← e, x3]; omega) ⟨by omega, by rw [ty8]; simp [am_tin]⟩ (Nat.le_refl _) (by omega) (fun h2 fr xm e5 e3 el en hA hs hu hg => ?_)
  have i195 : am_fi (am_sfi (am_sfr (am_new h 8 2) 108 (am_sz h + 1) s) 109 (am_sz h + 1) fl) 195 Lr = am_fi h 195 Lr := ((fp.2.2.2 Lr ls.1.1.2.2.2.2.1).2.2 (fun z => z)).1 195
  have fx2 : fx (fun q => q = Lr ∨ (q = (am_fr h 194 Lr) ∧ am_fi h 195 Lr < (am_ln h (am_fr h 194 Lr)))) h h2 := by
    refine fx_trans2 (fx_sub fp (fun q _ z => z.elim)) fr (fun q hq z => ?_)
    rw [lnp, arp, i195] at z
    exact z
  have tyX := LsS_X ls
  have nX : ∀ q, q ≤ am_sz h → (fun q => q = Lr ∨ (q = (am_fr h 194 Lr) ∧ am_fi h 195 Lr < (am_ln h (am_fr h 194 Lr)))) q → am_ty h q = 31 ∨ am_ty h q = 114 := fun q hq z => (tyX q z hq).2
  have ne : ∀ q, (fun q => q = Lr ∨ (q = (am_fr h 194 Lr) ∧ am_fi h 195 Lr < (am_ln h (am_fr h 194 Lr)))) q → q ≤ am_sz h → am_sz h0 < q ∧ q ≠ R ∧ q ≠ B ∧ q ≠ A := fun q z hq => by
    have k := tyX q z hq
    obtain ⟨s1, s2, s3, s4, s5, s6, s7, s8, s9, s10⟩ := rd
    have tB := s9.1
    have tA := s9.2.1
    rw [s8] at tA
    refine ⟨by omega, fun e => ?_, fun e => ?_, fun e => ?_⟩
    · rw [e, s3] at k
      omega
    · rw [e, tB] at k
      omega
    · rw [e, tA] at k
      omega
  have rd2 := RdS_fx rd fx2 ne
  have Rz := rd.2.1.2
  have nR : ¬ (fun q => q = Lr ∨ (q = (am_fr h 194 Lr) ∧ am_fi h 195 Lr < (am_ln h (am_fr h 194 Lr)))) R := fun z => (ne R z Rz).2.1 rfl
  have z2 : am_sz (am_sfi (am_sfr (am_new h 8 2) 108 (am_sz h + 1) s) 109 (am_sz h + 1) fl) = am_sz h + 1 := rfl
  have u2 : am_us (am_sfi (am_sfr (am_new h 8 2) 108 (am_sz h + 1) s) 109 (am_sz h + 1) fl) = am_us h + 2 := rfl
  rw [lnp] at hs hu
  refine H h2 fx2 (fun f => ((fx2.2.2.2 R Rz).2.2 nR).2.1 f) rd2 ?_ (by omega) (by omega)
  have lap : ((cur ++ [(w, a, len, fl)]).length : Int) = cur.length + 1 := by
    rw [List.length_append]
    rfl
  have frp : fx (fun q => q = Lr ∨ (q = (am_fr h 194 Lr) ∧ am_fi h 195 Lr < (am_ln h (am_fr h 194 Lr)))) (am_sfi (am_sfr (am_new h 8 2) 108 (am_sz h + 1) s) 109 (am_sz h + 1) fl) h2 := by
    rw [lnp, arp, i195] at fr
    exact fr
  have gX : ∀ q, q ≤ am_sz (am_sfi (am_sfr (am_new h 8 2) 108 (am_sz h + 1) s) 109 (am_sz h + 1) fl) → (fun q => q = Lr ∨ (q = (am_fr h 194 Lr) ∧ am_fi h 195 Lr < (am_ln h (am_fr h 194 Lr)))) q → am_ty (am_sfi (am_sfr (am_new h 8 2) 108 (am_sz h + 1) s) 109 (am_sz h + 1) fl) q ≠ 8 ∧ am_ty (am_sfi (am_sfr (am_new h 8 2) 108 (am_sz h + 1) s) 109 (am_sz h + 1) fl) q ≠ 30 ∧ ((am_ty (am_sfi (am_sfr (am_new h 8 2) 108 (am_sz h + 1) s) 109 (am_sz h + 1) fl) q = 102 ∨ am_ty (am_sfi (am_sfr (am_new h 8 2) 108 (am_sz h + 1) s) 109 (am_sz h + 1) fl) q = 122) → q = A) := fun q hq z => by
    have hq' : q ≤ am_sz h := by
      have k1 := ls.1.1.2.2.2.2
      rcases z with z | z
      · omega
      · omega
    have k := nX q hq' z
    have t0 := (fp.2.2.2 q hq').1
    rw [t0]
    omega
  refine ⟨xm, ls.2.1, by rw [e5, x3, lap], ?_, ?_, fun k hk => ?_⟩
  · rw [arp] at hA
    rcases hA with e | e
    · rw [e]
      rcases x4 with y | y
      · left
        rcases hg with g | g
        · have g2 : am_ln h2 (am_fr h2 194 Lr) = (am_ln h (am_fr h 194 Lr)) := by
            rw [g]
            exact lnp
          rw [e] at g2
          rw [g2]
          rw [lnp] at y
          exact y
        · exfalso
          have g2 := g.2
          rw [e, lnp] at g2
          have g3 := (fx2.2.2.2 _ ls.1.1.2.2.2.2.2).2.1
          omega
      · right
        rw [arp] at y
        exact y
    · right
      have e' : am_sz h + 1 < am_fr h2 194 Lr := e
      have := ls.1.1.2.2.2.2.1
      have := ls.2.1
      omega
  · rw [e3, lap]
    omega
  · rw [gP_ap]
    by_cases c : k < cur.length
    · rw [if_pos c]
      have el' := el k (by omega) (by omega)
      rw [el']
      exact pcC_fx frp gX (x6 k c)
    · rw [if_neg c]
      rw [List.length_append] at hk
      have hk' : k < cur.length + 1 := hk
      have ek : k = cur.length := by omega
      have e0 : k - cur.length = 0 := by omega
      rw [e0]
      have en' : am_ar h2 (am_fr h2 194 Lr) (k : Int) = am_sz h + 1 := by
        rw [x3] at en
        rw [ek]
        exact en
      rw [en']
      refine pcC_fx frp gX ?_
      have f108 : am_fr (am_sfi (am_sfr (am_new h 8 2) 108 (am_sz h + 1) s) 109 (am_sz h + 1) fl) 108 (am_sz h + 1) = s := x_fre
      have y := xSc_fx0 fp (fun z => z) (fun z => z) xs
      have tys := (fp.2.2.2 s xs.1.2.2.2.2.1.1).1
      refine ⟨ty8, ⟨by have := ls.1.1.2.2.2.2.1; have := ls.2.1; omega, Nat.le_refl _⟩, x_fie, ?_, ?_, ?_⟩
      · rw [f108]
        exact y.1
      · rw [f108, y.2]
        exact sz
      · rw [f108, tys]
        exact sty
/-- a word -/
theorem x_word {m w : Int} {D : Nat} (hD : 45 ≤ D) (hb0 : am_sz h0 ≤ am_sz hb) (x : TxT h0 T t n) (rd : RdS h0 h R T B A a c0 l) (hl : (l.length : Int) ≤ 12) (ls : LsS hb h Lr A t cur) (e99 : am_fr h 99 R = Lr) (ha : 0 ≤ a ∧ a ≤ n) (hc0 : 0 ≤ c0) (hc : (c0 + ((cur).length : Int)) ≤ 40) (H0 : ∀ p, (if m = 0 ∨ ¬ (a < n ∧ (97 ≤ t (a) ∧ t (a) ≤ 122)) then .inl a else wdR t n w a (c0 + ((cur).length : Int))) = .inl p → ThR h0 h K p (1001 + 3 * (40 - (c0 + ((cur).length : Int))) - (am_ln h (am_fr h 194 Lr))) (5007 + 18 * (40 - (c0 + ((cur).length : Int))) - 5 * (am_ln h (am_fr h 194 Lr)))) (H1 : ∀ q, (if m = 0 ∨ ¬ (a < n ∧ (97 ≤ t (a) ∧ t (a) ≤ 122)) then .inl a else wdR t n w a (c0 + ((cur).length : Int))) = .inr q → ∀ h' l', fx (fun q => q = R ∨ q = B ∨ q = A ∨ am_sz hb < q) h h' → (∀ f, am_fr h' f R = am_fr h f R) → RdS h0 h' R T B A q.1 c0 l' → (l'.length : Int) ≤ 12 → LsS hb h' Lr A t (cur ++ q.2) → (am_sz h' : Int) + (am_ln h (am_fr h 194 Lr)) ≤ am_sz h + (am_ln h' (am_fr h' 194 Lr)) + 3 * (q.2.length : Int) → (am_us h' : Int) + 5 * (am_ln h (am_fr h 194 Lr)) ≤ am_us h + 5 * (am_ln h' (am_fr h' 194 Lr)) + 18 * (q.2.length : Int) → K (.inl none) h') : am_ev am_prog D 331 [.inr (.inl R), .inl m] h K := by
  obtain ⟨d, rfl⟩ : ∃ d, D = d + 13 := ⟨D - 13, by omega⟩
  refine am_en p_X7_word rfl rfl ?_
  have gRBA : ∀ (h' : am_H) (a' : Int) (l' : List Int), RdS h0 h' R T B A a' c0 l' → ∀ q, q ≤ am_sz h' → (q = R ∨ q = B ∨ q = A) → am_ty h' q ≠ 8 ∧ am_ty h' q ≠ 30 ∧ am_ty h' q ≠ 31 ∧ am_ty h' q ≠ 114 ∧ am_ty h' q ≠ 134 ∧ ((am_ty h' q = 102 ∨ am_ty h' q = 122) → q = A) := fun h' a' l' r q _ z => by
    obtain ⟨s1, s2, s3, s4, s5, s6, s7, s8, s9, s10⟩ := r
    have tB := s9.1
    have tA := s9.2.1
    rw [s8] at tA
    rcases z with z | z | z
    · rw [z, s3]
      exact ⟨by decide, by decide, by decide, by decide, by decide, fun y => absurd y (by decide)⟩
    · rw [z, tB]
      exact ⟨by decide, by decide, by decide, by decide, by decide, fun y => absurd y (by decide)⟩
    · rw [z, tA]
      exact ⟨by decide, by decide, by decide, by decide, by decide, fun _ => rfl⟩
  have main : ∀ (f : Nat) (a : Int) (cur : List am_Pz) (h : am_H) (s : Nat) (l : List Int), (n - a).toNat ≤ f → 0 ≤ a → (a < n ∧ (97 ≤ t (a) ∧ t (a) ≤ 122)) → (c0 + ((cur).length : Int)) ≠ 40 → (c0 + ((cur).length : Int)) ≤ 40 → (lE t n a) - a ≤ 12 → RdS h0 h R T B A (lE t n a) c0 l → (l.length : Int) ≤ 12 → LsS hb h Lr A t cur → am_fr h 99 R = Lr → xSc h s ((lE t n a) - a) (fun i => t (a + i)) → (am_sz hb < am_fr h 189 s ∧ am_fr h 189 s ≠ A) → am_ty h s = 30 → (∀ p, wdR t n w a (c0 + ((cur).length : Int)) = .inl p → ThR h0 h K p (999 + 3 * (40 - (c0 + ((cur).length : Int))) - (am_ln h (am_fr h 194 Lr))) (4991 + 18 * (40 - (c0 + ((cur).length : Int))) - 5 * (am_ln h (am_fr h 194 Lr)))) → (∀ q, wdR t n w a (c0 + ((cur).length : Int)) = .inr q → ∀ h' l', fx (fun q => q = R ∨ q = B ∨ q = A ∨ am_sz hb < q) h h' → (∀ f, am_fr h' f R = am_fr h f R) → RdS h0 h' R T B A q.1 c0 l' → (l'.length : Int) ≤ 12 → LsS hb h' Lr A t (cur ++ q.2) → (am_sz h' : Int) + (am_ln h (am_fr h 194 Lr)) + 2 ≤ am_sz h + (am_ln h' (am_fr h' 194 Lr)) + 3 * (q.2.length : Int) → (am_us h' : Int) + 5 * (am_ln h (am_fr h 194 Lr)) + 16 ≤ am_us h + 5 * (am_ln h' (am_fr h' 194 Lr)) + 18 * (q.2.length : Int) → K (.inl none) h') → am_W m_X7_word (am_ev am_prog (d + 12)) K 4 [some (.inr (.inl (R))), some (.inl (m)), some (.inr (.inl (s)))] [] h := by
    intro f
    induction f with
    | zero =>
      intro a cur h s l hf ha hlt
      omega
    | succ f ih =>
      intro a cur h s l hf ha hlt c40 cc e12 rd hl ls e99 xs sz sty G0 G1
      obtain ⟨x1, x2, x3, x4, x5⟩ := TxT_fx rd.1 x
      have lv := lE_v (t := t) (n := n) (a := a)
      have len := lv.1.2 (by omega)
      have f96 := rd.2.2.2.1
      have f97 := rd.2.2.2.2.1
      have tyR := rd.2.2.1
      have Lz := ls.1.1.2.2.2.2.1
      have tyL := ls.1.1.1
      have cl : (cur.length : Int) ≤ 40 := by omega
      have XF : ∀ (h' : am_H) (cur' : List am_Pz), LsS hb h' Lr A t cur' → ∀ q, q ≤ am_sz h' → (fun q => q = Lr ∨ (q = (am_fr h' 194 Lr) ∧ am_fi h' 195 Lr < (am_ln h' (am_fr h' 194 Lr)))) q → (fun q => q = R ∨ q = B ∨ q = A ∨ am_sz hb < q) q := fun h' cur' ls' q hq z => Or.inr (Or.inr (Or.inr (LsS_X ls' q z hq).1))
      have last : ¬ ((lE t n a) < n ∧ t (lE t n a) = 45) → (Lr ≤ am_sz h ∧ am_ty h Lr = 31) ∧ am_ev am_prog (d + 12) 205 [.inr (.inl Lr), .inr (.inl (am_sz h + 1))] (am_sfi (am_sfr (am_new h 8 2) 108 (am_sz h + 1) s) 109 (am_sz h + 1) 1) (am_aft (am_hand m_X7_word K (am_W m_X7_word (am_ev am_prog (d + 12)) K) 36) (am_W m_X7_word (am_ev am_prog (d + 12)) K) 36 [some (.inr (.inl (R))), some (.inl (m)), some (.inr (.inl (s)))] []) := fun z => by
        refine ⟨⟨Lz, tyL⟩, x_addP (w := w) (by omega) hb0 rd ls cl xs sz sty (Or.inr rfl) (fun h2 fr hr rd2 ls2 cz cu => am_av (v_X7_word_37 ?_))⟩
        have e1 : (([(w, a, (lE t n a) - a, 1)] : List am_Pz).length : Int) = 1 := rfl
        exact G1 ((lE t n a), [(w, a, (lE t n a) - a, 1)]) (wdR_1 c40 e12 z) h2 l (fx_sub fr (XF h cur ls)) hr rd2 hl ls2 (by rw [e1]; omega) (by rw [e1]; omega)
      refine v_X7_word_4 ?_
      rw [f96, f97, x3, e99]
      refine ⟨tyR, ⟨Or.inl tyR, Or.inl x1⟩, fun z => last (fun y => absurd y.1 (by omega)), fun z => ⟨by omega, ?_⟩⟩
      rw [x5 (lE t n a) (by omega) z]
      refine ⟨fun z2 => last (fun y => absurd y.2 (by omega)), fun z2 => ⟨fun z3 => last (fun y => absurd y.2 (by omega)), fun z3 => ⟨⟨Lz, tyL⟩, ?_⟩⟩⟩
      have hy : (lE t n a) < n ∧ t (lE t n a) = 45 := ⟨z, by omega⟩
      refine x_addP (w := w) (by omega) hb0 rd ls cl xs sz sty (Or.inl rfl) (fun h2 fr hr rd2 ls2 cz cu => am_av (v_X7_word_17 ?_))
      have g97 := rd2.2.2.2.2.1
      rw [g97]
      refine ⟨⟨rd2.2.2.1, by omega⟩, ?_⟩
      have rd3 := RdS_at (a' := (lE t n a) + 1) rd2
      have f3 : fx (fun q => q = R ∨ q = B ∨ q = A) h2 (am_sfi h2 97 R ((lE t n a) + 1)) := fx_sfi fx_refl (Or.inr (Or.inl rfl))
      have l3 := LsS_fx f3 (gRBA h2 _ _ rd2) ls2
      have lap : ((cur ++ [(w, a, (lE t n a) - a, 0)]).length : Int) = cur.length + 1 := by
        rw [List.length_append]
        rfl
      have ec : (c0 + ((cur ++ [(w, a, (lE t n a) - a, 0)]).length : Int)) = (c0 + ((cur).length : Int)) + 1 := by
        rw [lap]
        omega
      have i195 : am_fi (am_sfi h2 97 R ((lE t n a) + 1)) 195 Lr = (cur.length : Int) + 1 := by
        rw [l3.1.2.2.1, lap]
      have N2 : (am_ln h2 (am_fr h2 194 Lr)) ≤ 1000 := ls2.1.2.1
      have e99' : am_fr (am_sfi h2 97 R ((lE t n a) + 1)) 99 R = Lr := (hr 99).trans e99
      have th : ∀ p, wdR t n w a (c0 + ((cur).length : Int)) = .inl p → ThR h0 (am_sfi h2 97 R ((lE t n a) + 1)) (am_aft (am_hand m_X7_word K (am_W m_X7_word (am_ev am_prog (d + 12)) K) 26) (am_W m_X7_word (am_ev am_prog (d + 12)) K) 26 [some (.inr (.inl (R))), some (.inl (m)), some (.inr (.inl (s)))] []) p 1 7 := fun p hp h' E g1 g2 g3 g4 g5 g6 => by
        have g5' : (am_sz h' : Int) ≤ am_sz h2 + 1 := g5
        have g6' : (am_us h' : Int) ≤ am_us h2 + 7 := g6
        exact am_ax rfl (G0 p hp h' E g1 g2 g3 g4 (by omega) (by omega))
      refine x_bit (by omega) x rd3 hl (by omega) e99' l3.1.1.1.1 (by rw [i195]; omega) (fun y => ?_) (fun _ y y2 => ?_) (fun _ y y2 y3 => ?_) (fun _ y y2 y3 => ?_)
      · exact th _ (wdR_h0 c40 e12 hy (fun v => y.elim (fun v => absurd v (by decide)) (fun u => u v)))
      · rw [i195] at y2
        exact th _ (wdR_hl c40 e12 hy y (wdR_40 (by omega)))
      · rw [i195] at y2
        exact th _ (wdR_hl c40 e12 hy y (wdR_12 (by omega) y3))
      · intro h4 s4 l4 f4 z4 u4 hr4 rd4 hl4 es4 ty4 xs4 f189
        rw [i195] at y2
        have l4' := LsS_fx f4 (gRBA _ _ _ rd3) l3.1
        have z4' : am_sz h4 = am_sz h2 + 2 := z4
        have u4' : am_us h4 ≤ am_us h2 + 16 := u4
        have LN4 : (am_ln h4 (am_fr h4 194 Lr)) = (am_ln h2 (am_fr h2 194 Lr)) := l4'.2.2.trans l3.2.2
        have hbz : am_sz hb < am_sz h2 + 2 := by
          have := ls2.1.1.2.2.2.2.1
          have := ls2.2.1
          omega
        have Az : A ≤ am_sz h2 := by
          have k1 := rd2.2.2.2.2.2.2.2.1
          have k2 := rd2.2.2.2.2.2.2.2.2.1.2.2.2.2.2.1.2
          rw [k1] at k2
          exact k2
        have f189' : am_fr h4 189 s4 = am_sz h2 + 2 := f189
        refine am_av (v_X7_word_27 (ih ((lE t n a) + 1) (cur ++ [(w, a, (lE t n a) - a, 0)]) h4 s4 l4 (by omega) (by omega) y (by rw [ec]; omega) (by rw [ec]; omega) y3 rd4 hl4 l4'.1 ((hr4 99).trans e99') xs4 (by omega) ty4 (fun p hp => ?_) (fun q hq h5 l5 f5 hr5 rd5 hl5 ls5 cz5 cu5 => ?_)))
        · rw [ec] at hp
          intro h' E g1 g2 g3 g4 g5 g6
          rw [ec, LN4] at g5 g6
          exact G0 p (wdR_hl c40 e12 hy y hp) h' E g1 g2 g3 g4 (by omega) (by omega)
        · rw [ec] at hq
          rw [LN4] at cz5 cu5
          have e1 : ((((w, a, (lE t n a) - a, 0) :: q.2 : List am_Pz)).length : Int) = q.2.length + 1 := by simp
          have ap : cur ++ [(w, a, (lE t n a) - a, 0)] ++ q.2 = cur ++ ((w, a, (lE t n a) - a, 0) :: q.2) := by simp
          rw [ap] at ls5
          refine G1 (q.1, (w, a, (lE t n a) - a, 0) :: q.2) (wdR_hr c40 e12 hy y hq) h5 l5 ?_ (fun f => (hr5 f).trans ((hr4 f).trans (hr f))) rd5 hl5 ls5 (by show _ ≤ _ + 3 * ((((w, a, (lE t n a) - a, 0) :: q.2 : List am_Pz)).length : Int); rw [e1]; omega) (by show _ ≤ _ + 18 * ((((w, a, (lE t n a) - a, 0) :: q.2 : List am_Pz)).length : Int); rw [e1]; omega)
          have w1 : fx (fun q => q = R ∨ q = B ∨ q = A ∨ am_sz hb < q) h h2 := fx_sub fr (XF h cur ls)
          have w2 : fx (fun q => q = R ∨ q = B ∨ q = A ∨ am_sz hb < q) h (am_sfi h2 97 R ((lE t n a) + 1)) := fx_sfi w1 (Or.inr (Or.inl rfl))
          have w3 : fx (fun q => q = R ∨ q = B ∨ q = A ∨ am_sz hb < q) h h4 := fx_trans2 w2 f4 (fun q _ v => by
            rcases v with v | v | v
            · exact Or.inl v
            · exact Or.inr (Or.inl v)
            · exact Or.inr (Or.inr (Or.inl v)))
          exact fx_trans w3 f5
  have i195 := ls.2.2.1
  have N1 : (am_ln h (am_fr h 194 Lr)) ≤ 1000 := ls.1.2.1
  refine v_X7_word_0 ⟨rd.2.2.1, ?_⟩
  have thr : ∀ p, ThR h0 h K p (1001 + 3 * (40 - (c0 + ((cur).length : Int))) - (am_ln h (am_fr h 194 Lr))) (5007 + 18 * (40 - (c0 + ((cur).length : Int))) - 5 * (am_ln h (am_fr h 194 Lr))) → ThR h0 h (am_aft (am_hand m_X7_word K (am_W m_X7_word (am_ev am_prog (d + 12)) K) 2) (am_W m_X7_word (am_ev am_prog (d + 12)) K) 2 [some (.inr (.inl (R))), some (.inl (m)), none] []) p 1 7 := fun p G h' E g1 g2 g3 g4 g5 g6 => am_ax rfl (G h' E g1 g2 g3 g4 (by omega) (by omega))
  refine x_bit (by omega) x rd hl ha e99 ls.1.1.1 (by rw [i195]; omega) (fun y => thr a (H0 a (if_pos y))) (fun y0 y y2 => ?_) (fun y0 y y2 y3 => ?_) (fun y0 y y2 y3 => ?_)
  · rw [i195] at y2
    refine thr a (H0 a ((if_neg (fun v => v.elim y0 (fun u => u y))).trans (wdR_40 (by omega))))
  · rw [i195] at y2
    refine thr (a + 12) (H0 _ ((if_neg (fun v => v.elim y0 (fun u => u y))).trans (wdR_12 (by omega) y3)))
  · intro h4 s4 l4 f4 z4 u4 hr4 rd4 hl4 es4 ty4 xs4 f189
    rw [i195] at y2
    have en : ∀ (r : Int ⊕ (Int × List am_Pz)), wdR t n w a (c0 + ((cur).length : Int)) = r → (if m = 0 ∨ ¬ (a < n ∧ (97 ≤ t (a) ∧ t (a) ≤ 122)) then .inl a else wdR t n w a (c0 + ((cur).length : Int))) = r := fun r hr => (if_neg (fun v => v.elim y0 (fun u => u y))).trans hr
    have l4' := LsS_fx f4 (gRBA _ _ _ rd) ls
    have LN4 : (am_ln h4 (am_fr h4 194 Lr)) = (am_ln h (am_fr h 194 Lr)) := l4'.2.2
    have hbz : am_sz hb < am_sz h + 2 := by
      have := ls.1.1.2.2.2.2.1
      have := ls.2.1
      omega
    have Az : A ≤ am_sz h := by
      have k1 := rd.2.2.2.2.2.2.2.1
      have k2 := rd.2.2.2.2.2.2.2.2.1.2.2.2.2.2.1.2
      rw [k1] at k2
      exact k2
    refine am_av (v_X7_word_3 (main _ a cur h4 s4 l4 (Nat.le_refl _) ha.1 y (by omega) hc y3 rd4 hl4 l4'.1 ((hr4 99).trans e99) xs4 (by omega) ty4 (fun p hp => ?_) (fun q hq h5 l5 f5 hr5 rd5 hl5 ls5 cz5 cu5 => ?_)))
    · intro h' E g1 g2 g3 g4 g5 g6
      rw [LN4] at g5 g6
      exact H0 p (en _ hp) h' E g1 g2 g3 g4 (by omega) (by omega)
    · rw [LN4] at cz5 cu5
      refine H1 q (en _ hq) h5 l5 ?_ (fun f => (hr5 f).trans (hr4 f)) rd5 hl5 ls5 (by omega) (by omega)
      have w3 : fx (fun q => q = R ∨ q = B ∨ q = A ∨ am_sz hb < q) h h4 := fx_sub f4 (fun q _ v => by
        rcases v with v | v | v
        · exact Or.inl v
        · exact Or.inr (Or.inl v)
        · exact Or.inr (Or.inr (Or.inl v)))
      exact fx_trans w3 f5
end
